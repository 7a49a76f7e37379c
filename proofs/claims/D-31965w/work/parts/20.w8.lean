/-! X1_end: level 15, alloc, throws java/lang/IllegalStateException,java/lang/IndexOutOfBoundsException -/
def wl_X1_end_68 (G : mG) (P : Int32 → mM → Prop) (X : String → Nat → mM → Prop) : Nat → Nat → mM → Int32 → Nat → Prop
  | 0, _, _, _, _ => False
  | n + 1, r, M, x4, a5 => isc M a5 20 ∧ (wp_J23_hasNext G 0 (fun v23 M22 => (v23 = 0 → P x4 M22) ∧ (¬ v23 = 0 → isc M22 a5 20 ∧ (wp_J23_next G 0 (fun u25 M24 => isc M24 u25 15 ∧ (isc M24 u25 15 ∧ (wp_X18_many G 0 (fun v27 M26 => (wl_X1_end_68 G P X n) r M26 (x4 + v27) a5) M24 u25))) M22 a5))) M a5)
def wb_X1_end_54 (G : mG) (P : Int32 → mM → Prop) (X : String → Nat → mM → Prop) (r : Nat) (M : mM) (a3 : Nat) : Prop :=
  gfa M a3 14 5 fun u17 => isc M u17 16 ∧ (∃ b19 r20 : Nat, b19 + r20 = r ∧ wp_J2_iterator G b19 (fun u21 M18 => ∃ n68, wl_X1_end_68 G P X n68 r20 M18 0 u21) M u17)
def wb_X1_end_37 (G : mG) (P : Int32 → mM → Prop) (X : String → Nat → mM → Prop) (r : Nat) (M : mM) (a0 : Nat) (x2 : Int32) (a3 : Nat) (s0 : Nat) (s1 : Int32) : Prop :=
  pfi M s0 14 4 s1 fun M10 => (¬ x2 = 0 → wb_X1_end_54 G P X r M10 a3) ∧ (x2 = 0 → isc M10 a0 0 ∧ (∃ b12 r13 : Nat, b12 + r13 = r ∧ wp_X1_tellAll G b12 (fun M11 => isc M11 a0 0 ∧ (∃ b15 r16 : Nat, b15 + r16 = r13 ∧ wp_X1_addUp G b15 (fun M14 => wb_X1_end_54 G P X r16 M14 a3) M11 a0 a3)) M10 a0 a3))
def wb_X1_end_24 (G : mG) (P : Int32 → mM → Prop) (X : String → Nat → mM → Prop) (r : Nat) (M : mM) (a0 : Nat) (x2 : Int32) (a3 : Nat) (s0 : Int32) : Prop :=
  ∃ b8 r9 : Nat, b8 + r9 = r ∧ wp_X1_checkState G b8 (fun M7 => (x2 = 0 → wb_X1_end_37 G P X r9 M7 a0 x2 a3 a3 1) ∧ (¬ x2 = 0 → wb_X1_end_37 G P X r9 M7 a0 x2 a3 a3 2)) X M s0
def wp_X1_end (G : mG) (b : Nat) (P : Int32 → mM → Prop) (X : String → Nat → mM → Prop) (M : mM) (a0 : Nat) (x1 : Int32) (x2 : Int32) : Prop :=
  gfa M a0 0 7 fun u1 => ∃ b3 r4 : Nat, b3 + r4 = b ∧ wp_X1_at G b3 (fun u5 M2 => isc M2 u5 14 ∧ (gfi M2 u5 14 4 fun v6 => (¬ v6 = 0 → wb_X1_end_24 G P X r4 M2 a0 x2 u5 0) ∧ (v6 = 0 → wb_X1_end_24 G P X r4 M2 a0 x2 u5 1))) X M u1 x1
set_option maxHeartbeats 4000000 in
set_option maxRecDepth 100000 in
theorem wk_X1_end {l : Launch} (hst0 : l.stackTraces = false) {G : mG} {b : Nat} {P : Int32 → mM → Prop} {X : String → Nat → mM → Prop} {M : mM} {a0 : Nat} {x1 : Int32} {x2 : Int32} (h : wp_X1_end G b P X M a0 x1 x2) : mMet l yX1_end (ws_ yX1_end cX1_end 7 (Option.some Jvm.ClassFile.FieldType.int)) 15 b G [.ref a0, .int x1, .int x2] M (mRi P) X := by
  refine mm_met hst0 (by decide) (Nat.le_of_ble_eq_true rfl) ?_
  intro p e s m args below meth c ls C hr hnt hnm hl S
  have hl : lv_has ls 7 [(0, .ref a0), (1, .int x1), (2, .int x2)] := hl
  generalize mA M s.heap.size = A at C S ⊢
  have hx := C.hx
  have hb := C.hb
  have hk : 0 + b ≤ b := Nat.le_of_eq (Nat.zero_add b)
  have j68 : ∀ (nf : Nat) (k r : Nat) (M : mM) (H : Heap) (locs : List Loc) (ls : Array Slot) (x4 : Int32) (a5 : Nat), k + r ≤ b → mW G A s M H locs → lv_has ls 7 [(4, .int x4), (5, .ref a5)] → wl_X1_end_68 G P X nf r M x4 a5 → W p l e (mRm 15 b) s m args below meth c H locs k k (vx_MQ below (mQ G A (mRi P)) (mXC G A X) args s b b A) (F0 m 68 ls []) := by
    intro nf
    induction nf with
    | zero =>
      intro k r M H locs ls x4 a5 hk S hl h
      rw [wl_X1_end_68] at h
      exact h.elim
    | succ n68 ih68 =>
      intro k r M H locs ls x4 a5 hk S hl h
      rw [wl_X1_end_68] at h
      refine lv_aload hx hb dX1_end_68 (lv_at hl 1 rfl) ?_
      obtain ⟨hI, h⟩ := h
      refine mm_F (As := []) (rest := []) C S hl.1 (x := ⟨"java/util/Iterator", "hasNext", "()Z"⟩) (wk_J23_hasNext hst0 h) (T := TJ23) rfl hI (mWsF q379 q383 q385 q85 (lw_meth q387)) (by decide +kernel) pdi_7 ⟨Nat.le_of_ble_eq_true rfl, Nat.le_of_ble_eq_true rfl⟩ rfl rfl (Nat.le_of_ble_eq_true rfl) dX1_end_70 rfl rfl hk (Nat.zero_add _) (fun v9 M22 H locs hP S hk => ?_) (fun E q ce M9 H9 locs9 hX => hX.elim)
      obtain ⟨v23, rfl, h⟩ := hP
      refine W.eq (g2 := F0 m 75 ls [.int v23]) rfl ?_
      refine lv_if_eq (tgt := 103) hx hb dX1_end_75 (by decide) (fun c9 => ?_) (fun c9 => ?_)
      · have h := h.1 c9
        refine lv_iload hx hb dX1_end_103 (lv_at hl 0 rfl) ?_
        exact mm_iret C S hr (Nat.le_trans (Nat.le_add_right _ _) hk) dX1_end_105 h
      · have h := h.2 c9
        refine lv_aload hx hb dX1_end_78 (lv_at hl 1 rfl) ?_
        obtain ⟨hI, h⟩ := h
        refine mm_F (As := []) (rest := []) C S hl.1 (x := ⟨"java/util/Iterator", "next", "()Ljava/lang/Object;"⟩) (wk_J23_next hst0 h) (T := TJ23) rfl hI (mWsF q389 q392 q394 q85 (lw_meth q396)) (by decide +kernel) pdi_6 ⟨Nat.le_of_ble_eq_true rfl, Nat.le_of_ble_eq_true rfl⟩ rfl rfl (Nat.le_of_ble_eq_true rfl) dX1_end_80 rfl rfl hk (Nat.zero_add _) (fun v9 M24 H locs hP S hk => ?_) (fun E q ce M9 H9 locs9 hX => hX.elim)
        obtain ⟨u25, rfl, h⟩ := hP
        refine W.eq (g2 := F0 m 85 ls [.ref u25]) rfl ?_
        refine mm_castS C S (ci := 15) (T := TX18) rfl rfl q401 h.1 dX1_end_85 ?_
        have h := h.2
        refine lv_astore (lv' := [(6, .ref u25), (4, .int x4), (5, .ref a5)]) hx hb dX1_end_88 hl (by decide) rfl (fun ls hl => ?_)
        refine lv_iload hx hb dX1_end_90 (lv_at hl 1 rfl) ?_
        refine lv_aload hx hb dX1_end_92 (lv_at hl 0 rfl) ?_
        obtain ⟨hI, h⟩ := h
        refine mm_V (As := []) (rest := [.int x4]) C S hl.1 (wk_X18_many hst0 h) (T := TX18) rfl hI (lw_V q406 q407 q408 q93 q409) rfl pd_X18_many ⟨Nat.le_of_ble_eq_true rfl, Nat.le_of_ble_eq_true rfl⟩ rfl rfl (Nat.le_of_ble_eq_true rfl) dX1_end_94 rfl rfl hk (Nat.zero_add _) (fun v9 M26 H locs hP S hk => ?_) (fun E q ce M9 H9 locs9 hX => hX.elim)
        obtain ⟨v27, rfl, h⟩ := hP
        refine W.eq (g2 := F0 m 97 ls [.int v27, .int x4]) rfl ?_
        refine lv_iadd hx hb dX1_end_97 ?_
        refine lv_istore (lv' := [(4, .int (x4 + v27)), (6, .ref u25), (5, .ref a5)]) hx hb dX1_end_98 hl (by decide) rfl (fun ls hl => ?_)
        refine lv_goto (tgt := 68) hx hb dX1_end_100 (by decide) ?_
        exact ih68 _ _ _ _ _ _ _ _ hk S (lv_sub hl [0, 2] rfl) h
  have j54 : ∀ (k r : Nat) (M : mM) (H : Heap) (locs : List Loc) (ls : Array Slot) (a3 : Nat), k + r ≤ b → mW G A s M H locs → lv_has ls 7 [(3, .ref a3)] → wb_X1_end_54 G P X r M a3 → W p l e (mRm 15 b) s m args below meth c H locs k k (vx_MQ below (mQ G A (mRi P)) (mXC G A X) args s b b A) (F0 m 54 ls []) := by
    intro k r M H locs ls a3 hk S hl h
    unfold wb_X1_end_54 at h
    refine lv_iconst (v := 0) hx hb dX1_end_54 (by decide) ?_
    refine lv_istore (lv' := [(4, .int 0), (3, .ref a3)]) hx hb dX1_end_55 hl (by decide) rfl (fun ls hl => ?_)
    refine lv_aload_n hx hb dX1_end_57 rfl (lv_at hl 1 rfl) ?_
    refine mm_gfaN C S (ci := 14) (k := 5) rfl in_X17 (by decide) q1507 (fun _ h9 => h9) dX1_end_58 h (fun u17 h => ?_)
    obtain ⟨hI, h⟩ := h
    obtain ⟨b19, r20, hb9, h⟩ := h
    refine mm_F (As := []) (rest := []) C S hl.1 (x := ⟨"java/util/List", "iterator", "()Ljava/util/Iterator;"⟩) (wk_J2_iterator hst0 h) (T := TJ2) rfl hI (mWsF q351 q354 q356 q51 (lw_meth q358)) (by decide +kernel) pdi_5 ⟨Nat.le_of_ble_eq_true rfl, Nat.le_of_ble_eq_true rfl⟩ rfl rfl (Nat.le_of_ble_eq_true rfl) dX1_end_61 rfl rfl hk hb9 (fun v9 M18 H locs hP S hk => ?_) (fun E q ce M9 H9 locs9 hX => hX.elim)
    obtain ⟨u21, rfl, h⟩ := hP
    refine W.eq (g2 := F0 m 66 ls [.ref u21]) rfl ?_
    refine lv_astore (lv' := [(5, .ref u21), (4, .int 0), (3, .ref a3)]) hx hb dX1_end_66 hl (by decide) rfl (fun ls hl => ?_)
    obtain ⟨nf, h⟩ := h
    exact j68 nf _ _ _ _ _ _ _ _ hk S (lv_sub hl [1, 0] rfl) h
  have j37 : ∀ (k r : Nat) (M : mM) (H : Heap) (locs : List Loc) (ls : Array Slot) (a0 : Nat) (x2 : Int32) (a3 : Nat) (s0 : Nat) (s1 : Int32), k + r ≤ b → mW G A s M H locs → lv_has ls 7 [(0, .ref a0), (2, .int x2), (3, .ref a3)] → wb_X1_end_37 G P X r M a0 x2 a3 s0 s1 → W p l e (mRm 15 b) s m args below meth c H locs k k (vx_MQ below (mQ G A (mRi P)) (mXC G A X) args s b b A) (F0 m 37 ls [.int s1, .ref s0]) := by
    intro k r M H locs ls a0 x2 a3 s0 s1 hk S hl h
    unfold wb_X1_end_37 at h
    refine mm_pfiN C S (ci := 14) (k := 4) rfl in_X17 tyX17_ok nmX17 (by decide) q1505 (fun _ h9 => h9) rfl dX1_end_37 rfl h (fun M10 H locs h S => ?_)
    refine lv_iload_n hx hb dX1_end_40 rfl (lv_at hl 1 rfl) ?_
    refine lv_if_ne (tgt := 54) hx hb dX1_end_41 (by decide) (fun c9 => ?_) (fun c9 => ?_)
    · have h := h.1 c9
      exact j54 _ _ _ _ _ _ _ hk S (lv_sub hl [2] rfl) h
    · have h := h.2 c9
      refine lv_aload_n hx hb dX1_end_44 rfl (lv_at hl 0 rfl) ?_
      refine lv_aload_n hx hb dX1_end_45 rfl (lv_at hl 2 rfl) ?_
      obtain ⟨hI, h⟩ := h
      obtain ⟨b12, r13, hb9, h⟩ := h
      refine mm_V (As := [.ref a3]) (rest := []) C S hl.1 (wk_X1_tellAll hst0 h) (T := TX1) rfl hI (lw_V q1557 q1559 qs17 q48 q1560) rfl pd_X1_tellAll ⟨Nat.le_of_ble_eq_true rfl, Nat.le_of_ble_eq_true rfl⟩ rfl rfl (Nat.le_of_ble_eq_true rfl) dX1_end_46 rfl rfl hk hb9 (fun v9 M11 H locs hP S hk => ?_) (fun E q ce M9 H9 locs9 hX => hX.elim)
      obtain ⟨rfl, h⟩ := hP
      refine W.eq (g2 := F0 m 49 ls []) rfl ?_
      refine lv_aload_n hx hb dX1_end_49 rfl (lv_at hl 0 rfl) ?_
      refine lv_aload_n hx hb dX1_end_50 rfl (lv_at hl 2 rfl) ?_
      obtain ⟨hI, h⟩ := h
      obtain ⟨b15, r16, hb9, h⟩ := h
      refine mm_V (As := [.ref a3]) (rest := []) C S hl.1 (wk_X1_addUp hst0 h) (T := TX1) rfl hI (lw_V q1601 q1603 qs21 q48 q1604) rfl pd_X1_addUp ⟨Nat.le_of_ble_eq_true rfl, Nat.le_of_ble_eq_true rfl⟩ rfl rfl (Nat.le_of_ble_eq_true rfl) dX1_end_51 rfl rfl hk hb9 (fun v9 M14 H locs hP S hk => ?_) (fun E q ce M9 H9 locs9 hX => hX.elim)
      obtain ⟨rfl, h⟩ := hP
      refine W.eq (g2 := F0 m 54 ls []) rfl ?_
      exact j54 _ _ _ _ _ _ _ hk S (lv_sub hl [2] rfl) h
  have j24 : ∀ (k r : Nat) (M : mM) (H : Heap) (locs : List Loc) (ls : Array Slot) (a0 : Nat) (x2 : Int32) (a3 : Nat) (s0 : Int32), k + r ≤ b → mW G A s M H locs → lv_has ls 7 [(0, .ref a0), (2, .int x2), (3, .ref a3)] → wb_X1_end_24 G P X r M a0 x2 a3 s0 → W p l e (mRm 15 b) s m args below meth c H locs k k (vx_MQ below (mQ G A (mRi P)) (mXC G A X) args s b b A) (F0 m 24 ls [.int s0]) := by
    intro k r M H locs ls a0 x2 a3 s0 hk S hl h
    unfold wb_X1_end_24 at h
    obtain ⟨b8, r9, hb9, h⟩ := h
    refine mm_S (As := [.int s0]) (rest := []) C S hl.1 (wk_X1_checkState hst0 h) (lw_S q606 q607 q48 q608) pd_X1_checkState ⟨Nat.le_of_ble_eq_true rfl, Nat.le_of_ble_eq_true rfl⟩ rfl rfl (Nat.le_of_ble_eq_true rfl) dX1_end_24 rfl rfl hk hb9 (fun v9 M7 H locs hP S hk => ?_) (fun E q ce M9 H9 locs9 hX S9 hk9 hc9 hv9 hf9 => mm_out C S9 (fun x hx => (hnt x hx).elim) (Nat.le_trans (Nat.le_add_right _ _) hk9) hc9 hv9 hf9 hX)
    obtain ⟨rfl, h⟩ := hP
    refine W.eq (g2 := F0 m 27 ls []) rfl ?_
    refine lv_aload_n hx hb dX1_end_27 rfl (lv_at hl 2 rfl) ?_
    refine lv_iload_n hx hb dX1_end_28 rfl (lv_at hl 1 rfl) ?_
    refine lv_if_eq (tgt := 36) hx hb dX1_end_29 (by decide) (fun c9 => ?_) (fun c9 => ?_)
    · have h := h.1 c9
      refine lv_iconst (v := 1) hx hb dX1_end_36 (by decide) ?_
      exact j37 _ _ _ _ _ _ _ _ _ _ _ hk S hl h
    · have h := h.2 c9
      refine lv_iconst (v := 2) hx hb dX1_end_32 (by decide) ?_
      refine lv_goto (tgt := 37) hx hb dX1_end_33 (by decide) ?_
      exact j37 _ _ _ _ _ _ _ _ _ _ _ hk S hl h
  unfold wp_X1_end at h
  refine lv_aload_n hx hb dX1_end_0 rfl (lv_at hl 0 rfl) ?_
  refine mm_gfa C S (ci := 0) (k := 7) rfl in_X1 (by decide) q222 (fun _ h9 => h9) dX1_end_1 h (fun u1 h => ?_)
  refine lv_iload_n hx hb dX1_end_4 rfl (lv_at hl 1 rfl) ?_
  obtain ⟨b3, r4, hb9, h⟩ := h
  refine mm_S (As := [.ref u1, .int x1]) (rest := []) C S hl.1 (wk_X1_at hst0 h) (lw_S q728 q729 q48 q730) pd_X1_at ⟨Nat.le_of_ble_eq_true rfl, Nat.le_of_ble_eq_true rfl⟩ rfl rfl (Nat.le_of_ble_eq_true rfl) dX1_end_5 rfl rfl hk hb9 (fun v9 M2 H locs hP S hk => ?_) (fun E q ce M9 H9 locs9 hX S9 hk9 hc9 hv9 hf9 => mm_out C S9 (fun x hx => (hnt x hx).elim) (Nat.le_trans (Nat.le_add_right _ _) hk9) hc9 hv9 hf9 hX)
  obtain ⟨u5, rfl, h⟩ := hP
  refine W.eq (g2 := F0 m 8 ls [.ref u5]) rfl ?_
  refine mm_castS C S (ci := 14) (T := TX17) rfl rfl q349 h.1 dX1_end_8 ?_
  have h := h.2
  refine lv_astore_n (lv' := [(3, .ref u5), (0, .ref a0), (1, .int x1), (2, .int x2)]) hx hb dX1_end_11 rfl hl (by decide) rfl (fun ls hl => ?_)
  refine lv_aload_n hx hb dX1_end_12 rfl (lv_at hl 0 rfl) ?_
  refine mm_gfiN C S (ci := 14) (k := 4) rfl in_X17 (by decide) q1505 (fun _ h9 => h9) dX1_end_13 h (fun v6 h => ?_)
  refine lv_if_ne (tgt := 23) hx hb dX1_end_16 (by decide) (fun c9 => ?_) (fun c9 => ?_)
  · have h := h.1 c9
    refine lv_iconst (v := 0) hx hb dX1_end_23 (by decide) ?_
    exact j24 _ _ _ _ _ _ _ _ _ _ hk S (lv_sub hl [1, 3, 0] rfl) h
  · have h := h.2 c9
    refine lv_iconst (v := 1) hx hb dX1_end_19 (by decide) ?_
    refine lv_goto (tgt := 24) hx hb dX1_end_20 (by decide) ?_
    exact j24 _ _ _ _ _ _ _ _ _ _ hk S (lv_sub hl [1, 3, 0] rfl) h
/-! X0_end: level 16, alloc -/
def wb_X0_end_13 (G : mG) (P : Int32 → mM → Prop) (r : Nat) (M : mM) (s0 : Nat) : Prop :=
  P 1 M
def wb_X0_end_17 (G : mG) (P : Int32 → mM → Prop) (r : Nat) (M : mM) (s0 : Nat) : Prop :=
  P 2 M
def wp_X0_end (G : mG) (b : Nat) (P : Int32 → mM → Prop) (M : mM) (a0 : Nat) (x1 : Int32) (x2 : Int32) (a3 : Nat) : Prop :=
  isc M a0 0 ∧ (∃ b2 r3 : Nat, b2 + r3 = b ∧ wp_X1_end G b2 (fun v4 M1 => stl M1 4 a3 0 v4.toInt64 fun M5 => P 0 M5) (fun E9 u6 M7 => (E9 = "java/lang/IllegalStateException" ∧ wb_X0_end_17 G P r3 M7 u6) ∨ (E9 = "java/lang/IndexOutOfBoundsException" ∧ wb_X0_end_13 G P r3 M7 u6)) M a0 x1 x2)
set_option maxHeartbeats 4000000 in
set_option maxRecDepth 100000 in
theorem wk_X0_end {l : Launch} (hst0 : l.stackTraces = false) {G : mG} {b : Nat} {P : Int32 → mM → Prop} {M : mM} {a0 : Nat} {x1 : Int32} {x2 : Int32} {a3 : Nat} (h : wp_X0_end G b P M a0 x1 x2 a3) : mMet l yX0_end (wsW_ yX0_end cX0_end 5 (Option.some Jvm.ClassFile.FieldType.int) [((0 : Nat), (10 : Nat), (13 : Nat), (13 : Nat)), ((0 : Nat), (10 : Nat), (17 : Nat), (35 : Nat))]) 16 b G [.ref a0, .int x1, .int x2, .ref a3] M (mRi P) (fun _ _ _ => False) := by
  refine mm_metW hst0 (by decide) (Nat.le_of_ble_eq_true rfl) ?_
  intro p e s m args below meth c ls C hr htab hnm hl S
  have hl : lv_has ls 5 [(0, .ref a0), (1, .int x1), (2, .int x2), (3, .ref a3)] := hl
  generalize mA M s.heap.size = A at C S ⊢
  have hx := C.hx
  have hb := C.hb
  have hk : 0 + b ≤ b := Nat.le_of_eq (Nat.zero_add b)
  have j13 : ∀ (k r : Nat) (M : mM) (H : Heap) (locs : List Loc) (ls : Array Slot) (s0 : Nat), k + r ≤ b → mW G A s M H locs → lv_has ls 5 [] → wb_X0_end_13 G P r M s0 → W p l e (mRm 16 b) s m args below meth c H locs k k (vx_MQ below (mQ G A (mRi P)) (mXC G A (fun _ _ _ => False)) args s b b A) (F0 m 13 ls [.ref s0]) := by
    intro k r M H locs ls s0 hk S hl h
    unfold wb_X0_end_13 at h
    refine lv_astore (lv' := [(4, .ref s0)]) hx hb dX0_end_13 hl (by decide) rfl (fun ls hl => ?_)
    refine lv_iconst (v := 1) hx hb dX0_end_15 (by decide) ?_
    exact mm_iret C S hr (Nat.le_trans (Nat.le_add_right _ _) hk) dX0_end_16 h
  have j17 : ∀ (k r : Nat) (M : mM) (H : Heap) (locs : List Loc) (ls : Array Slot) (s0 : Nat), k + r ≤ b → mW G A s M H locs → lv_has ls 5 [] → wb_X0_end_17 G P r M s0 → W p l e (mRm 16 b) s m args below meth c H locs k k (vx_MQ below (mQ G A (mRi P)) (mXC G A (fun _ _ _ => False)) args s b b A) (F0 m 17 ls [.ref s0]) := by
    intro k r M H locs ls s0 hk S hl h
    unfold wb_X0_end_17 at h
    refine lv_astore (lv' := [(4, .ref s0)]) hx hb dX0_end_17 hl (by decide) rfl (fun ls hl => ?_)
    refine lv_iconst (v := 2) hx hb dX0_end_19 (by decide) ?_
    exact mm_iret C S hr (Nat.le_trans (Nat.le_add_right _ _) hk) dX0_end_20 h
  unfold wp_X0_end at h
  refine lv_aload_n hx hb dX0_end_0 rfl (lv_at hl 3 rfl) ?_
  refine lv_iconst (v := 0) hx hb dX0_end_1 (by decide) ?_
  refine lv_aload_n hx hb dX0_end_2 rfl (lv_at hl 0 rfl) ?_
  refine lv_iload_n hx hb dX0_end_3 rfl (lv_at hl 1 rfl) ?_
  refine lv_iload_n hx hb dX0_end_4 rfl (lv_at hl 2 rfl) ?_
  obtain ⟨hI, h⟩ := h
  obtain ⟨b2, r3, hb9, h⟩ := h
  refine mm_V (As := [.int x1, .int x2]) (rest := [.int 0, .ref a3]) C S hl.1 (wk_X1_end hst0 h) (T := TX1) rfl hI (lw_V q1553 q1554 q1555 q48 q1556) rfl pd_X1_end ⟨Nat.le_of_ble_eq_true rfl, Nat.le_of_ble_eq_true rfl⟩ rfl rfl (Nat.le_of_ble_eq_true rfl) dX0_end_5 rfl rfl hk hb9 (fun v9 M1 H locs hP S hk => ?_) (fun E u6 ce M7 H locs hX S hk hc9 hv9 hf9 => ?_)
  · obtain ⟨v4, rfl, h⟩ := hP
    refine W.eq (g2 := F0 m 8 ls [.int v4, .int 0, .ref a3]) rfl ?_
    refine lv_i2l hx hb dX0_end_8 rfl ?_
    refine mm_last C S h dX0_end_9 (fun M5 H locs h S => ?_)
    refine lv_goto (tgt := 21) hx hb dX0_end_10 (by decide) ?_
    refine lv_iconst (v := 0) hx hb dX0_end_21 (by decide) ?_
    exact mm_iret C S hr (Nat.le_trans (Nat.le_add_right _ _) hk) dX0_end_22 h
  · rcases hX with ⟨rfl, h⟩ | ⟨rfl, h⟩
    · refine vx_catch (pc := 5) (name := "java/lang/IllegalStateException") C.hown [(⟨0, 10, 13, 13⟩ : ExceptionTableEntry)] (⟨0, 10, 17, 35⟩ : ExceptionTableEntry) [] htab (mm_pass1 C (nm := "java/lang/IndexOutOfBoundsException") (by decide) q431 (by decide) mm_pass0) (by decide) (by decide) (C.ts _ q601) (va_Nw.use rfl (C.nw q611 rfl)) hc9 hv9 hf9 ?_
      exact j17 _ _ _ _ _ _ _ hk S (lv_sub hl [] rfl) h
    · refine vx_catch (pc := 5) (name := "java/lang/IndexOutOfBoundsException") C.hown [] (⟨0, 10, 13, 13⟩ : ExceptionTableEntry) [(⟨0, 10, 17, 35⟩ : ExceptionTableEntry)] htab mm_pass0 (by decide) (by decide) (C.ts _ q431) (va_Nw.use rfl (C.nw q521 rfl)) hc9 hv9 hf9 ?_
      exact j13 _ _ _ _ _ _ _ hk S (lv_sub hl [] rfl) h
/-! X1_level: level 11, alloc, throws java/lang/IndexOutOfBoundsException -/
def wp_X1_level (G : mG) (b : Nat) (P : Int32 → mM → Prop) (X : String → Nat → mM → Prop) (M : mM) (a0 : Nat) (x1 : Int32) : Prop :=
  ∃ b2 r3 : Nat, b2 + r3 = b ∧ wp_X1_checkIndex G b2 (fun M1 => gfa M1 a0 0 2 fun u4 => ldi M1 0 u4 x1 fun v5 => P v5 M1) X M x1 4
set_option maxHeartbeats 4000000 in
set_option maxRecDepth 100000 in
theorem wk_X1_level {l : Launch} (hst0 : l.stackTraces = false) {G : mG} {b : Nat} {P : Int32 → mM → Prop} {X : String → Nat → mM → Prop} {M : mM} {a0 : Nat} {x1 : Int32} (h : wp_X1_level G b P X M a0 x1) : mMet l yX1_level (ws_ yX1_level cX1_level 2 (Option.some Jvm.ClassFile.FieldType.int)) 11 b G [.ref a0, .int x1] M (mRi P) X := by
  refine mm_met hst0 (by decide) (Nat.le_of_ble_eq_true rfl) ?_
  intro p e s m args below meth c ls C hr hnt hnm hl S
  have hl : lv_has ls 2 [(0, .ref a0), (1, .int x1)] := hl
  generalize mA M s.heap.size = A at C S ⊢
  have hx := C.hx
  have hb := C.hb
  have hk : 0 + b ≤ b := Nat.le_of_eq (Nat.zero_add b)
  unfold wp_X1_level at h
  refine lv_iload_n hx hb dX1_level_0 rfl (lv_at hl 1 rfl) ?_
  refine lv_iconst (v := 4) hx hb dX1_level_1 (by decide) ?_
  obtain ⟨b2, r3, hb9, h⟩ := h
  refine mm_S (As := [.int x1, .int 4]) (rest := []) C S hl.1 (wk_X1_checkIndex hst0 h) (lw_S q516 q517 q48 q518) pd_X1_checkIndex ⟨Nat.le_of_ble_eq_true rfl, Nat.le_of_ble_eq_true rfl⟩ rfl rfl (Nat.le_of_ble_eq_true rfl) dX1_level_2 rfl rfl hk hb9 (fun v9 M1 H locs hP S hk => ?_) (fun E q ce M9 H9 locs9 hX S9 hk9 hc9 hv9 hf9 => mm_out C S9 (fun x hx => (hnt x hx).elim) (Nat.le_trans (Nat.le_add_right _ _) hk9) hc9 hv9 hf9 hX)
  obtain ⟨rfl, h⟩ := hP
  refine W.eq (g2 := F0 m 5 ls []) rfl ?_
  refine lv_aload_n hx hb dX1_level_5 rfl (lv_at hl 0 rfl) ?_
  refine mm_gfa C S (ci := 0) (k := 2) rfl in_X1 (by decide) q217 (fun _ h9 => h9) dX1_level_6 h (fun u4 h => ?_)
  refine lv_iload_n hx hb dX1_level_9 rfl (lv_at hl 1 rfl) ?_
  refine mm_iald C S h dX1_level_10 (fun v5 h => ?_)
  exact mm_iret C S hr (Nat.le_trans (Nat.le_add_right _ _) hk) dX1_level_11 h
/-! X0_level: level 12, alloc -/
def wb_X0_level_12 (G : mG) (P : Int32 → mM → Prop) (r : Nat) (M : mM) (s0 : Nat) : Prop :=
  P 1 M
def wp_X0_level (G : mG) (b : Nat) (P : Int32 → mM → Prop) (M : mM) (a0 : Nat) (x1 : Int32) (a2 : Nat) : Prop :=
  isc M a0 0 ∧ (∃ b2 r3 : Nat, b2 + r3 = b ∧ wp_X1_level G b2 (fun v4 M1 => stl M1 4 a2 0 v4.toInt64 fun M5 => P 0 M5) (fun E9 u6 M7 => (E9 = "java/lang/IndexOutOfBoundsException" ∧ wb_X0_level_12 G P r3 M7 u6)) M a0 x1)
set_option maxHeartbeats 4000000 in
set_option maxRecDepth 100000 in
theorem wk_X0_level {l : Launch} (hst0 : l.stackTraces = false) {G : mG} {b : Nat} {P : Int32 → mM → Prop} {M : mM} {a0 : Nat} {x1 : Int32} {a2 : Nat} (h : wp_X0_level G b P M a0 x1 a2) : mMet l yX0_level (wsW_ yX0_level cX0_level 4 (Option.some Jvm.ClassFile.FieldType.int) [((0 : Nat), (9 : Nat), (12 : Nat), (13 : Nat))]) 12 b G [.ref a0, .int x1, .ref a2] M (mRi P) (fun _ _ _ => False) := by
  refine mm_metW hst0 (by decide) (Nat.le_of_ble_eq_true rfl) ?_
  intro p e s m args below meth c ls C hr htab hnm hl S
  have hl : lv_has ls 4 [(0, .ref a0), (1, .int x1), (2, .ref a2)] := hl
  generalize mA M s.heap.size = A at C S ⊢
  have hx := C.hx
  have hb := C.hb
  have hk : 0 + b ≤ b := Nat.le_of_eq (Nat.zero_add b)
  have j12 : ∀ (k r : Nat) (M : mM) (H : Heap) (locs : List Loc) (ls : Array Slot) (s0 : Nat), k + r ≤ b → mW G A s M H locs → lv_has ls 4 [] → wb_X0_level_12 G P r M s0 → W p l e (mRm 12 b) s m args below meth c H locs k k (vx_MQ below (mQ G A (mRi P)) (mXC G A (fun _ _ _ => False)) args s b b A) (F0 m 12 ls [.ref s0]) := by
    intro k r M H locs ls s0 hk S hl h
    unfold wb_X0_level_12 at h
    refine lv_astore_n (lv' := [(3, .ref s0)]) hx hb dX0_level_12 rfl hl (by decide) rfl (fun ls hl => ?_)
    refine lv_iconst (v := 1) hx hb dX0_level_13 (by decide) ?_
    exact mm_iret C S hr (Nat.le_trans (Nat.le_add_right _ _) hk) dX0_level_14 h
  unfold wp_X0_level at h
  refine lv_aload_n hx hb dX0_level_0 rfl (lv_at hl 2 rfl) ?_
  refine lv_iconst (v := 0) hx hb dX0_level_1 (by decide) ?_
  refine lv_aload_n hx hb dX0_level_2 rfl (lv_at hl 0 rfl) ?_
  refine lv_iload_n hx hb dX0_level_3 rfl (lv_at hl 1 rfl) ?_
  obtain ⟨hI, h⟩ := h
  obtain ⟨b2, r3, hb9, h⟩ := h
  refine mm_V (As := [.int x1]) (rest := [.int 0, .ref a2]) C S hl.1 (wk_X1_level hst0 h) (T := TX1) rfl hI (lw_V q594 q595 q596 q48 q597) rfl pd_X1_level ⟨Nat.le_of_ble_eq_true rfl, Nat.le_of_ble_eq_true rfl⟩ rfl rfl (Nat.le_of_ble_eq_true rfl) dX0_level_4 rfl rfl hk hb9 (fun v9 M1 H locs hP S hk => ?_) (fun E u6 ce M7 H locs hX S hk hc9 hv9 hf9 => ?_)
  · obtain ⟨v4, rfl, h⟩ := hP
    refine W.eq (g2 := F0 m 7 ls [.int v4, .int 0, .ref a2]) rfl ?_
    refine lv_i2l hx hb dX0_level_7 rfl ?_
    refine mm_last C S h dX0_level_8 (fun M5 H locs h S => ?_)
    refine lv_goto (tgt := 15) hx hb dX0_level_9 (by decide) ?_
    refine lv_iconst (v := 0) hx hb dX0_level_15 (by decide) ?_
    exact mm_iret C S hr (Nat.le_trans (Nat.le_add_right _ _) hk) dX0_level_16 h
  · rcases hX with ⟨rfl, h⟩
    · refine vx_catch (pc := 4) (name := "java/lang/IndexOutOfBoundsException") C.hown [] (⟨0, 9, 12, 13⟩ : ExceptionTableEntry) [] htab mm_pass0 (by decide) (by decide) (C.ts _ q431) (va_Nw.use rfl (C.nw q521 rfl)) hc9 hv9 hf9 ?_
      exact j12 _ _ _ _ _ _ _ hk S (lv_sub hl [] rfl) h
/-! X1_looks: level 12, alloc, throws java/lang/IllegalArgumentException -/
def wp_X1_looks (G : mG) (b : Nat) (P : Int32 → mM → Prop) (X : String → Nat → mM → Prop) (M : mM) (a0 : Nat) (x1 : Int32) (x2 : Int32) : Prop :=
  ∃ b2 r3 : Nat, b2 + r3 = b ∧ wp_X1_checkRange G b2 (fun M1 => ∃ b5 r6 : Nat, b5 + r6 = r3 ∧ wp_X1_checkRange G b5 (fun M4 => gfa M4 a0 0 8 fun u7 => lda M4 8 u7 x1 fun u8 => ldi M4 0 u8 x2 fun v9 => P v9 M4) X M1 x2 0 3) X M x1 0 2
set_option maxHeartbeats 4000000 in
set_option maxRecDepth 100000 in
theorem wk_X1_looks {l : Launch} (hst0 : l.stackTraces = false) {G : mG} {b : Nat} {P : Int32 → mM → Prop} {X : String → Nat → mM → Prop} {M : mM} {a0 : Nat} {x1 : Int32} {x2 : Int32} (h : wp_X1_looks G b P X M a0 x1 x2) : mMet l yX1_looks (ws_ yX1_looks cX1_looks 3 (Option.some Jvm.ClassFile.FieldType.int)) 12 b G [.ref a0, .int x1, .int x2] M (mRi P) X := by
  refine mm_met hst0 (by decide) (Nat.le_of_ble_eq_true rfl) ?_
  intro p e s m args below meth c ls C hr hnt hnm hl S
  have hl : lv_has ls 3 [(0, .ref a0), (1, .int x1), (2, .int x2)] := hl
  generalize mA M s.heap.size = A at C S ⊢
  have hx := C.hx
  have hb := C.hb
  have hk : 0 + b ≤ b := Nat.le_of_eq (Nat.zero_add b)
  unfold wp_X1_looks at h
  refine lv_iload_n hx hb dX1_looks_0 rfl (lv_at hl 1 rfl) ?_
  refine lv_iconst (v := 0) hx hb dX1_looks_1 (by decide) ?_
  refine lv_iconst (v := 2) hx hb dX1_looks_2 (by decide) ?_
  obtain ⟨b2, r3, hb9, h⟩ := h
  refine mm_S (As := [.int x1, .int 0, .int 2]) (rest := []) C S hl.1 (wk_X1_checkRange hst0 h) (lw_S q540 q541 q48 q542) pd_X1_checkRange ⟨Nat.le_of_ble_eq_true rfl, Nat.le_of_ble_eq_true rfl⟩ rfl rfl (Nat.le_of_ble_eq_true rfl) dX1_looks_3 rfl rfl hk hb9 (fun v9 M1 H locs hP S hk => ?_) (fun E q ce M9 H9 locs9 hX S9 hk9 hc9 hv9 hf9 => mm_out C S9 (fun x hx => (hnt x hx).elim) (Nat.le_trans (Nat.le_add_right _ _) hk9) hc9 hv9 hf9 hX)
  obtain ⟨rfl, h⟩ := hP
  refine W.eq (g2 := F0 m 6 ls []) rfl ?_
  refine lv_iload_n hx hb dX1_looks_6 rfl (lv_at hl 2 rfl) ?_
  refine lv_iconst (v := 0) hx hb dX1_looks_7 (by decide) ?_
  refine lv_iconst (v := 3) hx hb dX1_looks_8 (by decide) ?_
  obtain ⟨b5, r6, hb9, h⟩ := h
  refine mm_S (As := [.int x2, .int 0, .int 3]) (rest := []) C S hl.1 (wk_X1_checkRange hst0 h) (lw_S q540 q541 q48 q542) pd_X1_checkRange ⟨Nat.le_of_ble_eq_true rfl, Nat.le_of_ble_eq_true rfl⟩ rfl rfl (Nat.le_of_ble_eq_true rfl) dX1_looks_9 rfl rfl hk hb9 (fun v9 M4 H locs hP S hk => ?_) (fun E q ce M9 H9 locs9 hX S9 hk9 hc9 hv9 hf9 => mm_out C S9 (fun x hx => (hnt x hx).elim) (Nat.le_trans (Nat.le_add_right _ _) hk9) hc9 hv9 hf9 hX)
  obtain ⟨rfl, h⟩ := hP
  refine W.eq (g2 := F0 m 12 ls []) rfl ?_
  refine lv_aload_n hx hb dX1_looks_12 rfl (lv_at hl 0 rfl) ?_
  refine mm_gfa C S (ci := 0) (k := 8) rfl in_X1 (by decide) q223 (fun _ h9 => h9) dX1_looks_13 h (fun u7 h => ?_)
  refine lv_iload_n hx hb dX1_looks_16 rfl (lv_at hl 1 rfl) ?_
  refine mm_aald C S (t := 8) rfl rfl h dX1_looks_17 (fun u8 h => ?_)
  refine lv_iload_n hx hb dX1_looks_18 rfl (lv_at hl 2 rfl) ?_
  refine mm_iald C S h dX1_looks_19 (fun v9 h => ?_)
  exact mm_iret C S hr (Nat.le_trans (Nat.le_add_right _ _) hk) dX1_looks_20 h
/-! X0_looks: level 13, alloc -/
def wb_X0_looks_13 (G : mG) (P : Int32 → mM → Prop) (r : Nat) (M : mM) (s0 : Nat) : Prop :=
  P 1 M
def wp_X0_looks (G : mG) (b : Nat) (P : Int32 → mM → Prop) (M : mM) (a0 : Nat) (x1 : Int32) (x2 : Int32) (a3 : Nat) : Prop :=
  isc M a0 0 ∧ (∃ b2 r3 : Nat, b2 + r3 = b ∧ wp_X1_looks G b2 (fun v4 M1 => stl M1 4 a3 0 v4.toInt64 fun M5 => P 0 M5) (fun E9 u6 M7 => (E9 = "java/lang/IllegalArgumentException" ∧ wb_X0_looks_13 G P r3 M7 u6)) M a0 x1 x2)
set_option maxHeartbeats 4000000 in
set_option maxRecDepth 100000 in
theorem wk_X0_looks {l : Launch} (hst0 : l.stackTraces = false) {G : mG} {b : Nat} {P : Int32 → mM → Prop} {M : mM} {a0 : Nat} {x1 : Int32} {x2 : Int32} {a3 : Nat} (h : wp_X0_looks G b P M a0 x1 x2 a3) : mMet l yX0_looks (wsW_ yX0_looks cX0_looks 5 (Option.some Jvm.ClassFile.FieldType.int) [((0 : Nat), (10 : Nat), (13 : Nat), (15 : Nat))]) 13 b G [.ref a0, .int x1, .int x2, .ref a3] M (mRi P) (fun _ _ _ => False) := by
  refine mm_metW hst0 (by decide) (Nat.le_of_ble_eq_true rfl) ?_
  intro p e s m args below meth c ls C hr htab hnm hl S
  have hl : lv_has ls 5 [(0, .ref a0), (1, .int x1), (2, .int x2), (3, .ref a3)] := hl
  generalize mA M s.heap.size = A at C S ⊢
  have hx := C.hx
  have hb := C.hb
  have hk : 0 + b ≤ b := Nat.le_of_eq (Nat.zero_add b)
  have j13 : ∀ (k r : Nat) (M : mM) (H : Heap) (locs : List Loc) (ls : Array Slot) (s0 : Nat), k + r ≤ b → mW G A s M H locs → lv_has ls 5 [] → wb_X0_looks_13 G P r M s0 → W p l e (mRm 13 b) s m args below meth c H locs k k (vx_MQ below (mQ G A (mRi P)) (mXC G A (fun _ _ _ => False)) args s b b A) (F0 m 13 ls [.ref s0]) := by
    intro k r M H locs ls s0 hk S hl h
    unfold wb_X0_looks_13 at h
    refine lv_astore (lv' := [(4, .ref s0)]) hx hb dX0_looks_13 hl (by decide) rfl (fun ls hl => ?_)
    refine lv_iconst (v := 1) hx hb dX0_looks_15 (by decide) ?_
    exact mm_iret C S hr (Nat.le_trans (Nat.le_add_right _ _) hk) dX0_looks_16 h
  unfold wp_X0_looks at h
  refine lv_aload_n hx hb dX0_looks_0 rfl (lv_at hl 3 rfl) ?_
  refine lv_iconst (v := 0) hx hb dX0_looks_1 (by decide) ?_
  refine lv_aload_n hx hb dX0_looks_2 rfl (lv_at hl 0 rfl) ?_
  refine lv_iload_n hx hb dX0_looks_3 rfl (lv_at hl 1 rfl) ?_
  refine lv_iload_n hx hb dX0_looks_4 rfl (lv_at hl 2 rfl) ?_
  obtain ⟨hI, h⟩ := h
  obtain ⟨b2, r3, hb9, h⟩ := h
  refine mm_V (As := [.int x1, .int x2]) (rest := [.int 0, .ref a3]) C S hl.1 (wk_X1_looks hst0 h) (T := TX1) rfl hI (lw_V q1627 q1628 q1629 q48 q1630) rfl pd_X1_looks ⟨Nat.le_of_ble_eq_true rfl, Nat.le_of_ble_eq_true rfl⟩ rfl rfl (Nat.le_of_ble_eq_true rfl) dX0_looks_5 rfl rfl hk hb9 (fun v9 M1 H locs hP S hk => ?_) (fun E u6 ce M7 H locs hX S hk hc9 hv9 hf9 => ?_)
  · obtain ⟨v4, rfl, h⟩ := hP
    refine W.eq (g2 := F0 m 8 ls [.int v4, .int 0, .ref a3]) rfl ?_
    refine lv_i2l hx hb dX0_looks_8 rfl ?_
    refine mm_last C S h dX0_looks_9 (fun M5 H locs h S => ?_)
    refine lv_goto (tgt := 17) hx hb dX0_looks_10 (by decide) ?_
    refine lv_iconst (v := 0) hx hb dX0_looks_17 (by decide) ?_
    exact mm_iret C S hr (Nat.le_trans (Nat.le_add_right _ _) hk) dX0_looks_18 h
  · rcases hX with ⟨rfl, h⟩
    · refine vx_catch (pc := 5) (name := "java/lang/IllegalArgumentException") C.hown [] (⟨0, 10, 13, 15⟩ : ExceptionTableEntry) [] htab mm_pass0 (by decide) (by decide) (C.ts _ q511) (va_Nw.use rfl (C.nw q548 rfl)) hc9 hv9 hf9 ?_
      exact j13 _ _ _ _ _ _ _ hk S (lv_sub hl [] rfl) h
/-! X1_nextYear: level 13, alloc, throws java/lang/IllegalStateException -/
def wb_X1_nextYear_68 (G : mG) (P : Int32 → mM → Prop) (X : String → Nat → mM → Prop) (K19 : Nat → mM → Nat → Int32 → Prop) (r : Nat) (M : mM) (a0 : Nat) (x1 : Int32) : Prop :=
  K19 r M a0 (x1 + 1)
def wl_X1_nextYear_19 (G : mG) (P : Int32 → mM → Prop) (X : String → Nat → mM → Prop) : Nat → Nat → mM → Nat → Int32 → Prop
  | 0, _, _, _, _ => False
  | n + 1, r, M, a0, x1 => gfa M a0 0 7 fun u5 => isc M u5 16 ∧ (wp_J2_size G 0 (fun v7 M6 => (v7 ≤ x1 → gfi M6 a0 0 17 fun v8 => pfi M6 a0 0 17 (v8 + 1) fun M9 => gfi M9 a0 0 17 fun v10 => P v10 M9) ∧ (¬ v7 ≤ x1 → gfa M6 a0 0 7 fun u11 => isc M6 u11 16 ∧ (wp_J2_get G 0 (fun u13 M12 => isc M12 u13 14 ∧ (gfi M12 u13 14 4 fun v14 => (¬ v14 = 0 → wb_X1_nextYear_68 G P X (wl_X1_nextYear_19 G P X n) r M12 a0 x1) ∧ (v14 = 0 → gfa M12 a0 0 7 fun u15 => isc M12 u15 16 ∧ (wp_J2_get G 0 (fun u17 M16 => isc M16 u17 14 ∧ (pfi M16 u17 14 4 2 fun M18 => wb_X1_nextYear_68 G P X (wl_X1_nextYear_19 G P X n) r M18 a0 x1)) M12 u15 x1)))) M6 u11 x1))) M u5)
def wb_X1_nextYear_14 (G : mG) (P : Int32 → mM → Prop) (X : String → Nat → mM → Prop) (r : Nat) (M : mM) (a0 : Nat) (s0 : Int32) : Prop :=
  ∃ b3 r4 : Nat, b3 + r4 = r ∧ wp_X1_checkState G b3 (fun M2 => ∃ n19, wl_X1_nextYear_19 G P X n19 r4 M2 a0 0) X M s0
def wp_X1_nextYear (G : mG) (b : Nat) (P : Int32 → mM → Prop) (X : String → Nat → mM → Prop) (M : mM) (a0 : Nat) : Prop :=
  gfi M a0 0 17 fun v1 => (9 ≤ v1 → wb_X1_nextYear_14 G P X b M a0 0) ∧ (¬ 9 ≤ v1 → wb_X1_nextYear_14 G P X b M a0 1)
set_option maxHeartbeats 4000000 in
set_option maxRecDepth 100000 in
theorem wk_X1_nextYear {l : Launch} (hst0 : l.stackTraces = false) {G : mG} {b : Nat} {P : Int32 → mM → Prop} {X : String → Nat → mM → Prop} {M : mM} {a0 : Nat} (h : wp_X1_nextYear G b P X M a0) : mMet l yX1_nextYear (ws_ yX1_nextYear cX1_nextYear 2 (Option.some Jvm.ClassFile.FieldType.int)) 13 b G [.ref a0] M (mRi P) X := by
  refine mm_met hst0 (by decide) (Nat.le_of_ble_eq_true rfl) ?_
  intro p e s m args below meth c ls C hr hnt hnm hl S
  have hl : lv_has ls 2 [(0, .ref a0)] := hl
  generalize mA M s.heap.size = A at C S ⊢
  have hx := C.hx
  have hb := C.hb
  have hk : 0 + b ≤ b := Nat.le_of_eq (Nat.zero_add b)
  have j19 : ∀ (nf : Nat) (k r : Nat) (M : mM) (H : Heap) (locs : List Loc) (ls : Array Slot) (a0 : Nat) (x1 : Int32), k + r ≤ b → mW G A s M H locs → lv_has ls 2 [(0, .ref a0), (1, .int x1)] → wl_X1_nextYear_19 G P X nf r M a0 x1 → W p l e (mRm 13 b) s m args below meth c H locs k k (vx_MQ below (mQ G A (mRi P)) (mXC G A X) args s b b A) (F0 m 19 ls []) := by
    intro nf
    induction nf with
    | zero =>
      intro k r M H locs ls a0 x1 hk S hl h
      rw [wl_X1_nextYear_19] at h
      exact h.elim
    | succ n19 ih19 =>
      have j68 : ∀ (k r : Nat) (M : mM) (H : Heap) (locs : List Loc) (ls : Array Slot) (a0 : Nat) (x1 : Int32), k + r ≤ b → mW G A s M H locs → lv_has ls 2 [(0, .ref a0), (1, .int x1)] → wb_X1_nextYear_68 G P X (wl_X1_nextYear_19 G P X n19) r M a0 x1 → W p l e (mRm 13 b) s m args below meth c H locs k k (vx_MQ below (mQ G A (mRi P)) (mXC G A X) args s b b A) (F0 m 68 ls []) := by
        intro k r M H locs ls a0 x1 hk S hl h
        unfold wb_X1_nextYear_68 at h
        refine lv_iinc (v := (x1 + 1)) (lv' := [(1, .int (x1 + 1)), (0, .ref a0)]) hx hb dX1_nextYear_68 hl (k := 1) rfl rfl (by decide) rfl (fun ls hl => ?_)
        refine lv_goto (tgt := 19) hx hb dX1_nextYear_71 (by decide) ?_
        exact ih19 _ _ _ _ _ _ _ _ hk S (lv_sub hl [1, 0] rfl) h
      intro k r M H locs ls a0 x1 hk S hl h
      rw [wl_X1_nextYear_19] at h
      refine lv_iload_n hx hb dX1_nextYear_19 rfl (lv_at hl 1 rfl) ?_
      refine lv_aload_n hx hb dX1_nextYear_20 rfl (lv_at hl 0 rfl) ?_
      refine mm_gfa C S (ci := 0) (k := 7) rfl in_X1 (by decide) q222 (fun _ h9 => h9) dX1_nextYear_21 h (fun u5 h => ?_)
      obtain ⟨hI, h⟩ := h
      refine mm_F (As := []) (rest := [.int x1]) C S hl.1 (x := ⟨"java/util/List", "size", "()I"⟩) (wk_J2_size hst0 h) (T := TJ2) rfl hI (mWsF q284 q288 q290 q51 (lw_meth q292)) (by decide +kernel) pdi_2 ⟨Nat.le_of_ble_eq_true rfl, Nat.le_of_ble_eq_true rfl⟩ rfl rfl (Nat.le_of_ble_eq_true rfl) dX1_nextYear_24 rfl rfl hk (Nat.zero_add _) (fun v9 M6 H locs hP S hk => ?_) (fun E q ce M9 H9 locs9 hX => hX.elim)
      obtain ⟨v7, rfl, h⟩ := hP
      refine W.eq (g2 := F0 m 29 ls [.int v7, .int x1]) rfl ?_
      refine lv_icmp_ge (tgt := 74) hx hb dX1_nextYear_29 (by decide) (fun c9 => ?_) (fun c9 => ?_)
      · have h := h.1 c9
        refine lv_aload_n hx hb dX1_nextYear_74 rfl (lv_at hl 0 rfl) ?_
        refine lv_dup hx hb dX1_nextYear_75 rfl ?_
        refine mm_gfi C S (ci := 0) (k := 17) rfl in_X1 (by decide) q232 (fun _ h9 => h9) dX1_nextYear_76 h (fun v8 h => ?_)
        refine lv_iconst (v := 1) hx hb dX1_nextYear_79 (by decide) ?_
        refine lv_iadd hx hb dX1_nextYear_80 ?_
        refine mm_pfi C S (ci := 0) (k := 17) rfl in_X1 tyX1_ok nmX1 (by decide) q232 (fun _ h9 => h9) rfl dX1_nextYear_81 rfl h (fun M9 H locs h S => ?_)
        refine lv_aload_n hx hb dX1_nextYear_84 rfl (lv_at hl 0 rfl) ?_
        refine mm_gfi C S (ci := 0) (k := 17) rfl in_X1 (by decide) q232 (fun _ h9 => h9) dX1_nextYear_85 h (fun v10 h => ?_)
        exact mm_iret C S hr (Nat.le_trans (Nat.le_add_right _ _) hk) dX1_nextYear_88 h
      · have h := h.2 c9
        refine lv_aload_n hx hb dX1_nextYear_32 rfl (lv_at hl 0 rfl) ?_
        refine mm_gfa C S (ci := 0) (k := 7) rfl in_X1 (by decide) q222 (fun _ h9 => h9) dX1_nextYear_33 h (fun u11 h => ?_)
        refine lv_iload_n hx hb dX1_nextYear_36 rfl (lv_at hl 1 rfl) ?_
        obtain ⟨hI, h⟩ := h
        refine mm_F (As := [.int x1]) (rest := []) C S hl.1 (x := ⟨"java/util/List", "get", "(I)Ljava/lang/Object;"⟩) (wk_J2_get hst0 h) (T := TJ2) rfl hI (mWsF q294 q297 q299 q51 (lw_meth q301)) (by decide +kernel) pdi_4 ⟨Nat.le_of_ble_eq_true rfl, Nat.le_of_ble_eq_true rfl⟩ rfl rfl (Nat.le_of_ble_eq_true rfl) dX1_nextYear_37 rfl rfl hk (Nat.zero_add _) (fun v9 M12 H locs hP S hk => ?_) (fun E q ce M9 H9 locs9 hX => hX.elim)
        obtain ⟨u13, rfl, h⟩ := hP
        refine W.eq (g2 := F0 m 42 ls [.ref u13]) rfl ?_
        refine mm_castS C S (ci := 14) (T := TX17) rfl rfl q349 h.1 dX1_nextYear_42 ?_
        have h := h.2
        refine mm_gfiN C S (ci := 14) (k := 4) rfl in_X17 (by decide) q1505 (fun _ h9 => h9) dX1_nextYear_45 h (fun v14 h => ?_)
        refine lv_if_ne (tgt := 68) hx hb dX1_nextYear_48 (by decide) (fun c9 => ?_) (fun c9 => ?_)
        · have h := h.1 c9
          exact j68 _ _ _ _ _ _ _ _ hk S hl h
        · have h := h.2 c9
          refine lv_aload_n hx hb dX1_nextYear_51 rfl (lv_at hl 0 rfl) ?_
          refine mm_gfa C S (ci := 0) (k := 7) rfl in_X1 (by decide) q222 (fun _ h9 => h9) dX1_nextYear_52 h (fun u15 h => ?_)
          refine lv_iload_n hx hb dX1_nextYear_55 rfl (lv_at hl 1 rfl) ?_
          obtain ⟨hI, h⟩ := h
          refine mm_F (As := [.int x1]) (rest := []) C S hl.1 (x := ⟨"java/util/List", "get", "(I)Ljava/lang/Object;"⟩) (wk_J2_get hst0 h) (T := TJ2) rfl hI (mWsF q294 q297 q299 q51 (lw_meth q301)) (by decide +kernel) pdi_4 ⟨Nat.le_of_ble_eq_true rfl, Nat.le_of_ble_eq_true rfl⟩ rfl rfl (Nat.le_of_ble_eq_true rfl) dX1_nextYear_56 rfl rfl hk (Nat.zero_add _) (fun v9 M16 H locs hP S hk => ?_) (fun E q ce M9 H9 locs9 hX => hX.elim)
          obtain ⟨u17, rfl, h⟩ := hP
          refine W.eq (g2 := F0 m 61 ls [.ref u17]) rfl ?_
          refine mm_castS C S (ci := 14) (T := TX17) rfl rfl q349 h.1 dX1_nextYear_61 ?_
          have h := h.2
          refine lv_iconst (v := 2) hx hb dX1_nextYear_64 (by decide) ?_
          refine mm_pfiN C S (ci := 14) (k := 4) rfl in_X17 tyX17_ok nmX17 (by decide) q1505 (fun _ h9 => h9) rfl dX1_nextYear_65 rfl h (fun M18 H locs h S => ?_)
          exact j68 _ _ _ _ _ _ _ _ hk S hl h
  have j14 : ∀ (k r : Nat) (M : mM) (H : Heap) (locs : List Loc) (ls : Array Slot) (a0 : Nat) (s0 : Int32), k + r ≤ b → mW G A s M H locs → lv_has ls 2 [(0, .ref a0)] → wb_X1_nextYear_14 G P X r M a0 s0 → W p l e (mRm 13 b) s m args below meth c H locs k k (vx_MQ below (mQ G A (mRi P)) (mXC G A X) args s b b A) (F0 m 14 ls [.int s0]) := by
    intro k r M H locs ls a0 s0 hk S hl h
    unfold wb_X1_nextYear_14 at h
    obtain ⟨b3, r4, hb9, h⟩ := h
    refine mm_S (As := [.int s0]) (rest := []) C S hl.1 (wk_X1_checkState hst0 h) (lw_S q606 q607 q48 q608) pd_X1_checkState ⟨Nat.le_of_ble_eq_true rfl, Nat.le_of_ble_eq_true rfl⟩ rfl rfl (Nat.le_of_ble_eq_true rfl) dX1_nextYear_14 rfl rfl hk hb9 (fun v9 M2 H locs hP S hk => ?_) (fun E q ce M9 H9 locs9 hX S9 hk9 hc9 hv9 hf9 => mm_out C S9 (fun x hx => (hnt x hx).elim) (Nat.le_trans (Nat.le_add_right _ _) hk9) hc9 hv9 hf9 hX)
    obtain ⟨rfl, h⟩ := hP
    refine W.eq (g2 := F0 m 17 ls []) rfl ?_
    refine lv_iconst (v := 0) hx hb dX1_nextYear_17 (by decide) ?_
    refine lv_istore_n (lv' := [(1, .int 0), (0, .ref a0)]) hx hb dX1_nextYear_18 rfl hl (by decide) rfl (fun ls hl => ?_)
    obtain ⟨nf, h⟩ := h
    exact j19 nf _ _ _ _ _ _ _ _ hk S (lv_sub hl [1, 0] rfl) h
  unfold wp_X1_nextYear at h
  refine lv_aload_n hx hb dX1_nextYear_0 rfl (lv_at hl 0 rfl) ?_
  refine mm_gfi C S (ci := 0) (k := 17) rfl in_X1 (by decide) q232 (fun _ h9 => h9) dX1_nextYear_1 h (fun v1 h => ?_)
  refine lv_bipush (v := 9) hx hb dX1_nextYear_4 (by decide) ?_
  refine lv_icmp_ge (tgt := 13) hx hb dX1_nextYear_6 (by decide) (fun c9 => ?_) (fun c9 => ?_)
  · have h := h.1 c9
    refine lv_iconst (v := 0) hx hb dX1_nextYear_13 (by decide) ?_
    exact j14 _ _ _ _ _ _ _ _ hk S hl h
  · have h := h.2 c9
    refine lv_iconst (v := 1) hx hb dX1_nextYear_9 (by decide) ?_
    refine lv_goto (tgt := 14) hx hb dX1_nextYear_10 (by decide) ?_
    exact j14 _ _ _ _ _ _ _ _ hk S hl h
/-! X0_nextYear: level 14, alloc -/
def wb_X0_nextYear_11 (G : mG) (P : Int32 → mM → Prop) (r : Nat) (M : mM) (s0 : Nat) : Prop :=
  P 1 M
def wp_X0_nextYear (G : mG) (b : Nat) (P : Int32 → mM → Prop) (M : mM) (a0 : Nat) (a1 : Nat) : Prop :=
  isc M a0 0 ∧ (∃ b2 r3 : Nat, b2 + r3 = b ∧ wp_X1_nextYear G b2 (fun v4 M1 => stl M1 4 a1 0 v4.toInt64 fun M5 => P 0 M5) (fun E9 u6 M7 => (E9 = "java/lang/IllegalStateException" ∧ wb_X0_nextYear_11 G P r3 M7 u6)) M a0)
set_option maxHeartbeats 4000000 in
set_option maxRecDepth 100000 in
theorem wk_X0_nextYear {l : Launch} (hst0 : l.stackTraces = false) {G : mG} {b : Nat} {P : Int32 → mM → Prop} {M : mM} {a0 : Nat} {a1 : Nat} (h : wp_X0_nextYear G b P M a0 a1) : mMet l yX0_nextYear (wsW_ yX0_nextYear cX0_nextYear 3 (Option.some Jvm.ClassFile.FieldType.int) [((0 : Nat), (8 : Nat), (11 : Nat), (35 : Nat))]) 14 b G [.ref a0, .ref a1] M (mRi P) (fun _ _ _ => False) := by
  refine mm_metW hst0 (by decide) (Nat.le_of_ble_eq_true rfl) ?_
  intro p e s m args below meth c ls C hr htab hnm hl S
  have hl : lv_has ls 3 [(0, .ref a0), (1, .ref a1)] := hl
  generalize mA M s.heap.size = A at C S ⊢
  have hx := C.hx
  have hb := C.hb
  have hk : 0 + b ≤ b := Nat.le_of_eq (Nat.zero_add b)
  have j11 : ∀ (k r : Nat) (M : mM) (H : Heap) (locs : List Loc) (ls : Array Slot) (s0 : Nat), k + r ≤ b → mW G A s M H locs → lv_has ls 3 [] → wb_X0_nextYear_11 G P r M s0 → W p l e (mRm 14 b) s m args below meth c H locs k k (vx_MQ below (mQ G A (mRi P)) (mXC G A (fun _ _ _ => False)) args s b b A) (F0 m 11 ls [.ref s0]) := by
    intro k r M H locs ls s0 hk S hl h
    unfold wb_X0_nextYear_11 at h
    refine lv_astore_n (lv' := [(2, .ref s0)]) hx hb dX0_nextYear_11 rfl hl (by decide) rfl (fun ls hl => ?_)
    refine lv_iconst (v := 1) hx hb dX0_nextYear_12 (by decide) ?_
    exact mm_iret C S hr (Nat.le_trans (Nat.le_add_right _ _) hk) dX0_nextYear_13 h
  unfold wp_X0_nextYear at h
  refine lv_aload_n hx hb dX0_nextYear_0 rfl (lv_at hl 1 rfl) ?_
  refine lv_iconst (v := 0) hx hb dX0_nextYear_1 (by decide) ?_
  refine lv_aload_n hx hb dX0_nextYear_2 rfl (lv_at hl 0 rfl) ?_
  obtain ⟨hI, h⟩ := h
  obtain ⟨b2, r3, hb9, h⟩ := h
  refine mm_V (As := []) (rest := [.int 0, .ref a1]) C S hl.1 (wk_X1_nextYear hst0 h) (T := TX1) rfl hI (lw_V q1655 q1656 q1657 q48 q1658) rfl pd_X1_nextYear ⟨Nat.le_of_ble_eq_true rfl, Nat.le_of_ble_eq_true rfl⟩ rfl rfl (Nat.le_of_ble_eq_true rfl) dX0_nextYear_3 rfl rfl hk hb9 (fun v9 M1 H locs hP S hk => ?_) (fun E u6 ce M7 H locs hX S hk hc9 hv9 hf9 => ?_)
  · obtain ⟨v4, rfl, h⟩ := hP
    refine W.eq (g2 := F0 m 6 ls [.int v4, .int 0, .ref a1]) rfl ?_
    refine lv_i2l hx hb dX0_nextYear_6 rfl ?_
    refine mm_last C S h dX0_nextYear_7 (fun M5 H locs h S => ?_)
    refine lv_goto (tgt := 14) hx hb dX0_nextYear_8 (by decide) ?_
    refine lv_iconst (v := 0) hx hb dX0_nextYear_14 (by decide) ?_
    exact mm_iret C S hr (Nat.le_trans (Nat.le_add_right _ _) hk) dX0_nextYear_15 h
  · rcases hX with ⟨rfl, h⟩
    · refine vx_catch (pc := 3) (name := "java/lang/IllegalStateException") C.hown [] (⟨0, 8, 11, 35⟩ : ExceptionTableEntry) [] htab mm_pass0 (by decide) (by decide) (C.ts _ q601) (va_Nw.use rfl (C.nw q611 rfl)) hc9 hv9 hf9 ?_
      exact j11 _ _ _ _ _ _ _ hk S (lv_sub hl [] rfl) h
/-! X18_init: level 11 -/
def wp_X18_init (G : mG) (b : Nat) (P : mM → Prop) (M : mM) (a0 : Nat) (x1 : Int32) (x2 : Int32) (x3 : Int32) (x4 : Int32) : Prop :=
  wp_J25_init_X18 G 0 (fun M1 => pfi M1 a0 15 0 x1 fun M2 => pfi M2 a0 15 1 x2 fun M3 => pfi M3 a0 15 2 x3 fun M4 => pfi M4 a0 15 3 x4 fun M5 => P M5) M a0
set_option maxHeartbeats 4000000 in
set_option maxRecDepth 100000 in
theorem wk_X18_init {l : Launch} (hst0 : l.stackTraces = false) {G : mG} {b : Nat} {P : mM → Prop} {M : mM} {a0 : Nat} {x1 : Int32} {x2 : Int32} {x3 : Int32} {x4 : Int32} (h : wp_X18_init G b P M a0 x1 x2 x3 x4) : mMet l yX18_init (ws_ yX18_init cX18_init 5 (Option.none : Option Jvm.ClassFile.FieldType)) 11 b G [.ref a0, .int x1, .int x2, .int x3, .int x4] M (mRv P) (fun _ _ _ => False) := by
  refine mm_met hst0 (by decide) (Nat.le_of_ble_eq_true rfl) ?_
  intro p e s m args below meth c ls C hr hnt hnm hl S
  have hl : lv_has ls 5 [(0, .ref a0), (1, .int x1), (2, .int x2), (3, .int x3), (4, .int x4)] := hl
  generalize mA M s.heap.size = A at C S ⊢
  have hx := C.hx
  have hb := C.hb
  have hk : 0 + b ≤ b := Nat.le_of_eq (Nat.zero_add b)
  unfold wp_X18_init at h
  refine lv_aload_n hx hb dX18_init_0 rfl (lv_at hl 0 rfl) ?_
  refine mm_I (As := []) (rest := []) C S hl.1 (wk_J25_init_X18 hst0 h) q1535 q92 q1533 q1534 rfl pd_J25_init ⟨Nat.le_of_ble_eq_true rfl, Nat.le_of_ble_eq_true rfl⟩ rfl rfl (Nat.le_of_ble_eq_true rfl) dX18_init_1 rfl rfl hk (Nat.zero_add _) (fun v9 M1 H locs hP S hk => ?_) (fun E q ce M9 H9 locs9 hX => hX.elim)
  obtain ⟨rfl, h⟩ := hP
  refine W.eq (g2 := F0 m 4 ls []) rfl ?_
  refine lv_aload_n hx hb dX18_init_4 rfl (lv_at hl 0 rfl) ?_
  refine lv_iload_n hx hb dX18_init_5 rfl (lv_at hl 1 rfl) ?_
  refine mm_pfiF C S (ci := 15) (k := 0) rfl in_X18 tyX18_ok nmX18 (by decide) q1537 (fun _ h9 => h9) rfl (hnm.trans rfl) rfl dX18_init_6 rfl h (fun M2 H locs h S => ?_)
  refine lv_aload_n hx hb dX18_init_9 rfl (lv_at hl 0 rfl) ?_
  refine lv_iload_n hx hb dX18_init_10 rfl (lv_at hl 2 rfl) ?_
  refine mm_pfiF C S (ci := 15) (k := 1) rfl in_X18 tyX18_ok nmX18 (by decide) q1538 (fun _ h9 => h9) rfl (hnm.trans rfl) rfl dX18_init_11 rfl h (fun M3 H locs h S => ?_)
  refine lv_aload_n hx hb dX18_init_14 rfl (lv_at hl 0 rfl) ?_
  refine lv_iload_n hx hb dX18_init_15 rfl (lv_at hl 3 rfl) ?_
  refine mm_pfiF C S (ci := 15) (k := 2) rfl in_X18 tyX18_ok nmX18 (by decide) q1539 (fun _ h9 => h9) rfl (hnm.trans rfl) rfl dX18_init_16 rfl h (fun M4 H locs h S => ?_)
  refine lv_aload_n hx hb dX18_init_19 rfl (lv_at hl 0 rfl) ?_
  refine lv_iload hx hb dX18_init_20 (lv_at hl 4 rfl) ?_
  refine mm_pfiF C S (ci := 15) (k := 3) rfl in_X18 tyX18_ok nmX18 (by decide) q1540 (fun _ h9 => h9) rfl (hnm.trans rfl) rfl dX18_init_22 rfl h (fun M5 H locs h S => ?_)
  exact mm_vret C S hr (Nat.le_trans (Nat.le_add_right _ _) hk) dX18_init_25 h
/-! X1_note: level 16, alloc, throws java/lang/IllegalArgumentException,java/lang/IllegalStateException,java/lang/IndexOutOfBoundsException -/
def wb_X1_note_105 (G : mG) (P : Int32 → mM → Prop) (X : String → Nat → mM → Prop) (r : Nat) (M : mM) (a0 : Nat) (x2 : Int32) (x3 : Int32) (x4 : Int32) (x5 : Int32) (a6 : Nat) (s0 : Int32) : Prop :=
  ∃ b33 r34 : Nat, b33 + r34 = r ∧ wp_X1_checkState G b33 (fun M32 => gfa M32 a6 14 5 fun u35 => nwo M32 r34 15 4 dfsX18 fun u36 M37 r38 => wp_X18_init G 0 (fun M39 => isc M39 u35 16 ∧ (∃ b41 r42 : Nat, b41 + r42 = r38 ∧ wp_J2_add G b41 (fun v43 M40 => gfi M40 a0 0 15 fun v44 => pfi M40 a0 0 15 (v44 + 1) fun M45 => gfa M45 a6 14 5 fun u46 => isc M45 u46 16 ∧ (wp_J2_size G 0 (fun v48 M47 => P v48 M47) M45 u46)) M39 u35 u36)) M37 u36 x2 x3 x4 x5) X M s0
def wb_X1_note_104 (G : mG) (P : Int32 → mM → Prop) (X : String → Nat → mM → Prop) (r : Nat) (M : mM) (a0 : Nat) (x2 : Int32) (x3 : Int32) (x4 : Int32) (x5 : Int32) (a6 : Nat) : Prop :=
  wb_X1_note_105 G P X r M a0 x2 x3 x4 x5 a6 0
def wb_X1_note_79 (G : mG) (P : Int32 → mM → Prop) (X : String → Nat → mM → Prop) (r : Nat) (M : mM) (a0 : Nat) (x2 : Int32) (x3 : Int32) (x4 : Int32) (x5 : Int32) (a6 : Nat) (s0 : Int32) : Prop :=
  ∃ b28 r29 : Nat, b28 + r29 = r ∧ wp_X1_checkArgument G b28 (fun M27 => gfi M27 a6 14 4 fun v30 => (¬ v30 = 0 → wb_X1_note_104 G P X r29 M27 a0 x2 x3 x4 x5 a6) ∧ (v30 = 0 → gfi M27 a0 0 15 fun v31 => (200 ≤ v31 → wb_X1_note_104 G P X r29 M27 a0 x2 x3 x4 x5 a6) ∧ (¬ 200 ≤ v31 → wb_X1_note_105 G P X r29 M27 a0 x2 x3 x4 x5 a6 1))) X M s0
def wp_X1_note (G : mG) (b : Nat) (P : Int32 → mM → Prop) (X : String → Nat → mM → Prop) (M : mM) (a0 : Nat) (x1 : Int32) (x2 : Int32) (x3 : Int32) (x4 : Int32) (x5 : Int32) : Prop :=
  gfa M a0 0 7 fun u1 => ∃ b3 r4 : Nat, b3 + r4 = b ∧ wp_X1_at G b3 (fun u5 M2 => isc M2 u5 14 ∧ (gfa M2 a0 0 5 fun u6 => gfi M2 u5 14 1 fun v7 => isc M2 u6 16 ∧ (wp_J2_get G 0 (fun u9 M8 => isc M8 u9 11 ∧ (gfa M8 u9 11 0 fun u10 => aln M8 u10 fun v11 => ∃ b13 r14 : Nat, b13 + r14 = r4 ∧ wp_X1_checkIndex G b13 (fun M12 => ∃ b16 r17 : Nat, b16 + r17 = r14 ∧ wp_X1_checkIndex G b16 (fun M15 => ∃ b19 r20 : Nat, b19 + r20 = r17 ∧ wp_X1_checkIndex G b19 (fun M18 => ∃ b22 r23 : Nat, b22 + r23 = r20 ∧ wp_X1_checkRange G b22 (fun M21 => ldi M21 0 u10 x2 fun v24 => wp_X1_distance G 0 (fun v26 M25 => (3 < v26 → wb_X1_note_79 G P X r23 M25 a0 x2 x3 x4 x5 u5 0) ∧ (¬ 3 < v26 → wb_X1_note_79 G P X r23 M25 a0 x2 x3 x4 x5 u5 1)) M21 v24 x3) X M18 x5 1 50) X M15 x4 4) X M12 x3 36) X M8 x2 v11)) M2 u6 v7))) X M u1 x1
set_option maxHeartbeats 4000000 in
set_option maxRecDepth 100000 in
theorem wk_X1_note {l : Launch} (hst0 : l.stackTraces = false) {G : mG} {b : Nat} {P : Int32 → mM → Prop} {X : String → Nat → mM → Prop} {M : mM} {a0 : Nat} {x1 : Int32} {x2 : Int32} {x3 : Int32} {x4 : Int32} {x5 : Int32} (h : wp_X1_note G b P X M a0 x1 x2 x3 x4 x5) : mMet l yX1_note (ws_ yX1_note cX1_note 8 (Option.some Jvm.ClassFile.FieldType.int)) 16 b G [.ref a0, .int x1, .int x2, .int x3, .int x4, .int x5] M (mRi P) X := by
  refine mm_met hst0 (by decide) (Nat.le_of_ble_eq_true rfl) ?_
  intro p e s m args below meth c ls C hr hnt hnm hl S
  have hl : lv_has ls 8 [(0, .ref a0), (1, .int x1), (2, .int x2), (3, .int x3), (4, .int x4), (5, .int x5)] := hl
  generalize mA M s.heap.size = A at C S ⊢
  have hx := C.hx
  have hb := C.hb
  have hk : 0 + b ≤ b := Nat.le_of_eq (Nat.zero_add b)
  have j105 : ∀ (k r : Nat) (M : mM) (H : Heap) (locs : List Loc) (ls : Array Slot) (a0 : Nat) (x2 : Int32) (x3 : Int32) (x4 : Int32) (x5 : Int32) (a6 : Nat) (s0 : Int32), k + r ≤ b → mW G A s M H locs → lv_has ls 8 [(0, .ref a0), (2, .int x2), (3, .int x3), (4, .int x4), (5, .int x5), (6, .ref a6)] → wb_X1_note_105 G P X r M a0 x2 x3 x4 x5 a6 s0 → W p l e (mRm 16 b) s m args below meth c H locs k k (vx_MQ below (mQ G A (mRi P)) (mXC G A X) args s b b A) (F0 m 105 ls [.int s0]) := by
    intro k r M H locs ls a0 x2 x3 x4 x5 a6 s0 hk S hl h
    unfold wb_X1_note_105 at h
    obtain ⟨b33, r34, hb9, h⟩ := h
    refine mm_S (As := [.int s0]) (rest := []) C S hl.1 (wk_X1_checkState hst0 h) (lw_S q606 q607 q48 q608) pd_X1_checkState ⟨Nat.le_of_ble_eq_true rfl, Nat.le_of_ble_eq_true rfl⟩ rfl rfl (Nat.le_of_ble_eq_true rfl) dX1_note_105 rfl rfl hk hb9 (fun v9 M32 H locs hP S hk => ?_) (fun E q ce M9 H9 locs9 hX S9 hk9 hc9 hv9 hf9 => mm_out C S9 (fun x hx => (hnt x hx).elim) (Nat.le_trans (Nat.le_add_right _ _) hk9) hc9 hv9 hf9 hX)
    obtain ⟨rfl, h⟩ := hP
    refine W.eq (g2 := F0 m 108 ls []) rfl ?_
    refine lv_aload hx hb dX1_note_108 (lv_at hl 5 rfl) ?_
    refine mm_gfaN C S (ci := 14) (k := 5) rfl in_X17 (by decide) q1507 (fun _ h9 => h9) dX1_note_110 h (fun u35 h => ?_)
    refine mm_new C S (ci := 15) (T := TX18) rfl in_X18 tyX18_ok q401 q1529 q93 dfX18 (by decide) dX1_note_113 rfl rfl hk h (fun u36 M37 r38 H h S hk => ?_)
    refine lv_dup hx hb dX1_note_116 rfl ?_
    refine lv_iload_n hx hb dX1_note_117 rfl (lv_at hl 1 rfl) ?_
    refine lv_iload_n hx hb dX1_note_118 rfl (lv_at hl 2 rfl) ?_
    refine lv_iload hx hb dX1_note_119 (lv_at hl 3 rfl) ?_
    refine lv_iload hx hb dX1_note_121 (lv_at hl 4 rfl) ?_
    refine mm_IN (As := [.int x2, .int x3, .int x4, .int x5]) (rest := [.ref u36, .ref u35]) C S hl.1 (wk_X18_init hst0 h) q1532 q93 q1530 q1531 rfl pd_X18_init ⟨Nat.le_of_ble_eq_true rfl, Nat.le_of_ble_eq_true rfl⟩ rfl rfl (Nat.le_of_ble_eq_true rfl) dX1_note_123 rfl rfl hk (Nat.zero_add _) (fun v9 M39 H locs hP S hk => ?_) (fun E q ce M9 H9 locs9 hX => hX.elim)
    obtain ⟨rfl, h⟩ := hP
    refine W.eq (g2 := F0 m 126 ls [.ref u36, .ref u35]) rfl ?_
    obtain ⟨hI, h⟩ := h
    obtain ⟨b41, r42, hb9, h⟩ := h
    refine mm_F (As := [.ref u36]) (rest := []) C S hl.1 (x := ⟨"java/util/List", "add", "(Ljava/lang/Object;)Z"⟩) (wk_J2_add hst0 h) (T := TJ2) rfl hI (mWsF q648 q651 q653 q51 (lw_meth q655)) (by decide +kernel) pdi_3 ⟨Nat.le_of_ble_eq_true rfl, Nat.le_of_ble_eq_true rfl⟩ rfl rfl (Nat.le_of_ble_eq_true rfl) dX1_note_126 rfl rfl hk hb9 (fun v9 M40 H locs hP S hk => ?_) (fun E q ce M9 H9 locs9 hX => hX.elim)
    obtain ⟨v43, rfl, h⟩ := hP
    refine W.eq (g2 := F0 m 131 ls [.int v43]) rfl ?_
    refine lv_pop hx hb dX1_note_131 rfl ?_
    refine lv_aload_n hx hb dX1_note_132 rfl (lv_at hl 0 rfl) ?_
    refine lv_dup hx hb dX1_note_133 rfl ?_
    refine mm_gfi C S (ci := 0) (k := 15) rfl in_X1 (by decide) q230 (fun _ h9 => h9) dX1_note_134 h (fun v44 h => ?_)
    refine lv_iconst (v := 1) hx hb dX1_note_137 (by decide) ?_
    refine lv_iadd hx hb dX1_note_138 ?_
    refine mm_pfi C S (ci := 0) (k := 15) rfl in_X1 tyX1_ok nmX1 (by decide) q230 (fun _ h9 => h9) rfl dX1_note_139 rfl h (fun M45 H locs h S => ?_)
    refine lv_aload hx hb dX1_note_142 (lv_at hl 5 rfl) ?_
    refine mm_gfaN C S (ci := 14) (k := 5) rfl in_X17 (by decide) q1507 (fun _ h9 => h9) dX1_note_144 h (fun u46 h => ?_)
    obtain ⟨hI, h⟩ := h
    refine mm_F (As := []) (rest := []) C S hl.1 (x := ⟨"java/util/List", "size", "()I"⟩) (wk_J2_size hst0 h) (T := TJ2) rfl hI (mWsF q284 q288 q290 q51 (lw_meth q292)) (by decide +kernel) pdi_2 ⟨Nat.le_of_ble_eq_true rfl, Nat.le_of_ble_eq_true rfl⟩ rfl rfl (Nat.le_of_ble_eq_true rfl) dX1_note_147 rfl rfl hk (Nat.zero_add _) (fun v9 M47 H locs hP S hk => ?_) (fun E q ce M9 H9 locs9 hX => hX.elim)
    obtain ⟨v48, rfl, h⟩ := hP
    refine W.eq (g2 := F0 m 152 ls [.int v48]) rfl ?_
    exact mm_iret C S hr (Nat.le_trans (Nat.le_add_right _ _) hk) dX1_note_152 h
  have j104 : ∀ (k r : Nat) (M : mM) (H : Heap) (locs : List Loc) (ls : Array Slot) (a0 : Nat) (x2 : Int32) (x3 : Int32) (x4 : Int32) (x5 : Int32) (a6 : Nat), k + r ≤ b → mW G A s M H locs → lv_has ls 8 [(0, .ref a0), (2, .int x2), (3, .int x3), (4, .int x4), (5, .int x5), (6, .ref a6)] → wb_X1_note_104 G P X r M a0 x2 x3 x4 x5 a6 → W p l e (mRm 16 b) s m args below meth c H locs k k (vx_MQ below (mQ G A (mRi P)) (mXC G A X) args s b b A) (F0 m 104 ls []) := by
    intro k r M H locs ls a0 x2 x3 x4 x5 a6 hk S hl h
    unfold wb_X1_note_104 at h
    refine lv_iconst (v := 0) hx hb dX1_note_104 (by decide) ?_
    exact j105 _ _ _ _ _ _ _ _ _ _ _ _ _ hk S hl h
  have j79 : ∀ (k r : Nat) (M : mM) (H : Heap) (locs : List Loc) (ls : Array Slot) (a0 : Nat) (x2 : Int32) (x3 : Int32) (x4 : Int32) (x5 : Int32) (a6 : Nat) (s0 : Int32), k + r ≤ b → mW G A s M H locs → lv_has ls 8 [(0, .ref a0), (2, .int x2), (3, .int x3), (4, .int x4), (5, .int x5), (6, .ref a6)] → wb_X1_note_79 G P X r M a0 x2 x3 x4 x5 a6 s0 → W p l e (mRm 16 b) s m args below meth c H locs k k (vx_MQ below (mQ G A (mRi P)) (mXC G A X) args s b b A) (F0 m 79 ls [.int s0]) := by
    intro k r M H locs ls a0 x2 x3 x4 x5 a6 s0 hk S hl h
    unfold wb_X1_note_79 at h
    obtain ⟨b28, r29, hb9, h⟩ := h
    refine mm_S (As := [.int s0]) (rest := []) C S hl.1 (wk_X1_checkArgument hst0 h) (lw_S q543 q544 q48 q545) pd_X1_checkArgument ⟨Nat.le_of_ble_eq_true rfl, Nat.le_of_ble_eq_true rfl⟩ rfl rfl (Nat.le_of_ble_eq_true rfl) dX1_note_79 rfl rfl hk hb9 (fun v9 M27 H locs hP S hk => ?_) (fun E q ce M9 H9 locs9 hX S9 hk9 hc9 hv9 hf9 => mm_out C S9 (fun x hx => (hnt x hx).elim) (Nat.le_trans (Nat.le_add_right _ _) hk9) hc9 hv9 hf9 hX)
    obtain ⟨rfl, h⟩ := hP
    refine W.eq (g2 := F0 m 82 ls []) rfl ?_
    refine lv_aload hx hb dX1_note_82 (lv_at hl 5 rfl) ?_
    refine mm_gfiN C S (ci := 14) (k := 4) rfl in_X17 (by decide) q1505 (fun _ h9 => h9) dX1_note_84 h (fun v30 h => ?_)
    refine lv_if_ne (tgt := 104) hx hb dX1_note_87 (by decide) (fun c9 => ?_) (fun c9 => ?_)
    · have h := h.1 c9
      exact j104 _ _ _ _ _ _ _ _ _ _ _ _ hk S hl h
    · have h := h.2 c9
      refine lv_aload_n hx hb dX1_note_90 rfl (lv_at hl 0 rfl) ?_
      refine mm_gfi C S (ci := 0) (k := 15) rfl in_X1 (by decide) q230 (fun _ h9 => h9) dX1_note_91 h (fun v31 h => ?_)
      refine lv_sipush (v := 200) hx hb dX1_note_94 (by decide) ?_
      refine lv_icmp_ge (tgt := 104) hx hb dX1_note_97 (by decide) (fun c9 => ?_) (fun c9 => ?_)
      · have h := h.1 c9
        exact j104 _ _ _ _ _ _ _ _ _ _ _ _ hk S hl h
      · have h := h.2 c9
        refine lv_iconst (v := 1) hx hb dX1_note_100 (by decide) ?_
        refine lv_goto (tgt := 105) hx hb dX1_note_101 (by decide) ?_
        exact j105 _ _ _ _ _ _ _ _ _ _ _ _ _ hk S hl h
  unfold wp_X1_note at h
  refine lv_aload_n hx hb dX1_note_0 rfl (lv_at hl 0 rfl) ?_
  refine mm_gfa C S (ci := 0) (k := 7) rfl in_X1 (by decide) q222 (fun _ h9 => h9) dX1_note_1 h (fun u1 h => ?_)
  refine lv_iload_n hx hb dX1_note_4 rfl (lv_at hl 1 rfl) ?_
  obtain ⟨b3, r4, hb9, h⟩ := h
  refine mm_S (As := [.ref u1, .int x1]) (rest := []) C S hl.1 (wk_X1_at hst0 h) (lw_S q728 q729 q48 q730) pd_X1_at ⟨Nat.le_of_ble_eq_true rfl, Nat.le_of_ble_eq_true rfl⟩ rfl rfl (Nat.le_of_ble_eq_true rfl) dX1_note_5 rfl rfl hk hb9 (fun v9 M2 H locs hP S hk => ?_) (fun E q ce M9 H9 locs9 hX S9 hk9 hc9 hv9 hf9 => mm_out C S9 (fun x hx => (hnt x hx).elim) (Nat.le_trans (Nat.le_add_right _ _) hk9) hc9 hv9 hf9 hX)
  obtain ⟨u5, rfl, h⟩ := hP
  refine W.eq (g2 := F0 m 8 ls [.ref u5]) rfl ?_
  refine mm_castS C S (ci := 14) (T := TX17) rfl rfl q349 h.1 dX1_note_8 ?_
  have h := h.2
  refine lv_astore (lv' := [(6, .ref u5), (0, .ref a0), (1, .int x1), (2, .int x2), (3, .int x3), (4, .int x4), (5, .int x5)]) hx hb dX1_note_11 hl (by decide) rfl (fun ls hl => ?_)
  refine lv_aload_n hx hb dX1_note_13 rfl (lv_at hl 1 rfl) ?_
  refine mm_gfa C S (ci := 0) (k := 5) rfl in_X1 (by decide) q220 (fun _ h9 => h9) dX1_note_14 h (fun u6 h => ?_)
  refine lv_aload hx hb dX1_note_17 (lv_at hl 0 rfl) ?_
  refine mm_gfiN C S (ci := 14) (k := 1) rfl in_X17 (by decide) q1499 (fun _ h9 => h9) dX1_note_19 h (fun v7 h => ?_)
  obtain ⟨hI, h⟩ := h
  refine mm_F (As := [.int v7]) (rest := []) C S hl.1 (x := ⟨"java/util/List", "get", "(I)Ljava/lang/Object;"⟩) (wk_J2_get hst0 h) (T := TJ2) rfl hI (mWsF q294 q297 q299 q51 (lw_meth q301)) (by decide +kernel) pdi_4 ⟨Nat.le_of_ble_eq_true rfl, Nat.le_of_ble_eq_true rfl⟩ rfl rfl (Nat.le_of_ble_eq_true rfl) dX1_note_22 rfl rfl hk (Nat.zero_add _) (fun v9 M8 H locs hP S hk => ?_) (fun E q ce M9 H9 locs9 hX => hX.elim)
  obtain ⟨u9, rfl, h⟩ := hP
  refine W.eq (g2 := F0 m 27 ls [.ref u9]) rfl ?_
  refine mm_castS C S (ci := 11) (T := TX14) rfl rfl q312 h.1 dX1_note_27 ?_
  have h := h.2
  refine mm_gfaN C S (ci := 11) (k := 0) rfl in_X14 (by decide) q1359 (fun _ h9 => h9) dX1_note_30 h (fun u10 h => ?_)
  refine lv_astore (lv' := [(7, .ref u10), (6, .ref u5), (0, .ref a0), (1, .int x1), (2, .int x2), (3, .int x3), (4, .int x4), (5, .int x5)]) hx hb dX1_note_33 hl (by decide) rfl (fun ls hl => ?_)
  refine lv_iload_n hx hb dX1_note_35 rfl (lv_at hl 4 rfl) ?_
  refine lv_aload hx hb dX1_note_36 (lv_at hl 0 rfl) ?_
  refine mm_alen C S h dX1_note_38 (fun v11 h => ?_)
  obtain ⟨b13, r14, hb9, h⟩ := h
  refine mm_S (As := [.int x2, .int v11]) (rest := []) C S hl.1 (wk_X1_checkIndex hst0 h) (lw_S q516 q517 q48 q518) pd_X1_checkIndex ⟨Nat.le_of_ble_eq_true rfl, Nat.le_of_ble_eq_true rfl⟩ rfl rfl (Nat.le_of_ble_eq_true rfl) dX1_note_39 rfl rfl hk hb9 (fun v9 M12 H locs hP S hk => ?_) (fun E q ce M9 H9 locs9 hX S9 hk9 hc9 hv9 hf9 => mm_out C S9 (fun x hx => (hnt x hx).elim) (Nat.le_trans (Nat.le_add_right _ _) hk9) hc9 hv9 hf9 hX)
  obtain ⟨rfl, h⟩ := hP
  refine W.eq (g2 := F0 m 42 ls []) rfl ?_
  refine lv_iload_n hx hb dX1_note_42 rfl (lv_at hl 5 rfl) ?_
  refine lv_bipush (v := 36) hx hb dX1_note_43 (by decide) ?_
  obtain ⟨b16, r17, hb9, h⟩ := h
  refine mm_S (As := [.int x3, .int 36]) (rest := []) C S hl.1 (wk_X1_checkIndex hst0 h) (lw_S q516 q517 q48 q518) pd_X1_checkIndex ⟨Nat.le_of_ble_eq_true rfl, Nat.le_of_ble_eq_true rfl⟩ rfl rfl (Nat.le_of_ble_eq_true rfl) dX1_note_45 rfl rfl hk hb9 (fun v9 M15 H locs hP S hk => ?_) (fun E q ce M9 H9 locs9 hX S9 hk9 hc9 hv9 hf9 => mm_out C S9 (fun x hx => (hnt x hx).elim) (Nat.le_trans (Nat.le_add_right _ _) hk9) hc9 hv9 hf9 hX)
  obtain ⟨rfl, h⟩ := hP
  refine W.eq (g2 := F0 m 48 ls []) rfl ?_
  refine lv_iload hx hb dX1_note_48 (lv_at hl 6 rfl) ?_
  refine lv_iconst (v := 4) hx hb dX1_note_50 (by decide) ?_
  obtain ⟨b19, r20, hb9, h⟩ := h
  refine mm_S (As := [.int x4, .int 4]) (rest := []) C S hl.1 (wk_X1_checkIndex hst0 h) (lw_S q516 q517 q48 q518) pd_X1_checkIndex ⟨Nat.le_of_ble_eq_true rfl, Nat.le_of_ble_eq_true rfl⟩ rfl rfl (Nat.le_of_ble_eq_true rfl) dX1_note_51 rfl rfl hk hb9 (fun v9 M18 H locs hP S hk => ?_) (fun E q ce M9 H9 locs9 hX S9 hk9 hc9 hv9 hf9 => mm_out C S9 (fun x hx => (hnt x hx).elim) (Nat.le_trans (Nat.le_add_right _ _) hk9) hc9 hv9 hf9 hX)
  obtain ⟨rfl, h⟩ := hP
  refine W.eq (g2 := F0 m 54 ls []) rfl ?_
  refine lv_iload hx hb dX1_note_54 (lv_at hl 7 rfl) ?_
  refine lv_iconst (v := 1) hx hb dX1_note_56 (by decide) ?_
  refine lv_bipush (v := 50) hx hb dX1_note_57 (by decide) ?_
  obtain ⟨b22, r23, hb9, h⟩ := h
  refine mm_S (As := [.int x5, .int 1, .int 50]) (rest := []) C S hl.1 (wk_X1_checkRange hst0 h) (lw_S q540 q541 q48 q542) pd_X1_checkRange ⟨Nat.le_of_ble_eq_true rfl, Nat.le_of_ble_eq_true rfl⟩ rfl rfl (Nat.le_of_ble_eq_true rfl) dX1_note_59 rfl rfl hk hb9 (fun v9 M21 H locs hP S hk => ?_) (fun E q ce M9 H9 locs9 hX S9 hk9 hc9 hv9 hf9 => mm_out C S9 (fun x hx => (hnt x hx).elim) (Nat.le_trans (Nat.le_add_right _ _) hk9) hc9 hv9 hf9 hX)
  obtain ⟨rfl, h⟩ := hP
  refine W.eq (g2 := F0 m 62 ls []) rfl ?_
  refine lv_aload hx hb dX1_note_62 (lv_at hl 0 rfl) ?_
  refine lv_iload_n hx hb dX1_note_64 rfl (lv_at hl 4 rfl) ?_
  refine mm_iald C S h dX1_note_65 (fun v24 h => ?_)
  refine lv_iload_n hx hb dX1_note_66 rfl (lv_at hl 5 rfl) ?_
  refine mm_S (As := [.int v24, .int x3]) (rest := []) C S hl.1 (wk_X1_distance hst0 h) (lw_S q1528 q322 q48 q323) pd_X1_distance ⟨Nat.le_of_ble_eq_true rfl, Nat.le_of_ble_eq_true rfl⟩ rfl rfl (Nat.le_of_ble_eq_true rfl) dX1_note_67 rfl rfl hk (Nat.zero_add _) (fun v9 M25 H locs hP S hk => ?_) (fun E q ce M9 H9 locs9 hX => hX.elim)
  obtain ⟨v26, rfl, h⟩ := hP
  refine W.eq (g2 := F0 m 70 ls [.int v26]) rfl ?_
  refine lv_iconst (v := 3) hx hb dX1_note_70 (by decide) ?_
  refine lv_icmp_gt (tgt := 78) hx hb dX1_note_71 (by decide) (fun c9 => ?_) (fun c9 => ?_)
  · have h := h.1 c9
    refine lv_iconst (v := 0) hx hb dX1_note_78 (by decide) ?_
    exact j79 _ _ _ _ _ _ _ _ _ _ _ _ _ hk S (lv_sub hl [2, 4, 5, 6, 7, 1] rfl) h
  · have h := h.2 c9
    refine lv_iconst (v := 1) hx hb dX1_note_74 (by decide) ?_
    refine lv_goto (tgt := 79) hx hb dX1_note_75 (by decide) ?_
    exact j79 _ _ _ _ _ _ _ _ _ _ _ _ _ hk S (lv_sub hl [2, 4, 5, 6, 7, 1] rfl) h
/-! X0_note: level 17, alloc -/
def wb_X0_note_19 (G : mG) (P : Int32 → mM → Prop) (r : Nat) (M : mM) (s0 : Nat) : Prop :=
  P 1 M
def wb_X0_note_23 (G : mG) (P : Int32 → mM → Prop) (r : Nat) (M : mM) (s0 : Nat) : Prop :=
  P 2 M
def wb_X0_note_27 (G : mG) (P : Int32 → mM → Prop) (r : Nat) (M : mM) (s0 : Nat) : Prop :=
  P 3 M
def wp_X0_note (G : mG) (b : Nat) (P : Int32 → mM → Prop) (M : mM) (a0 : Nat) (x1 : Int32) (x2 : Int32) (x3 : Int32) (x4 : Int32) (x5 : Int32) (a6 : Nat) : Prop :=
  isc M a0 0 ∧ (∃ b2 r3 : Nat, b2 + r3 = b ∧ wp_X1_note G b2 (fun v4 M1 => stl M1 4 a6 0 v4.toInt64 fun M5 => P 0 M5) (fun E9 u6 M7 => (E9 = "java/lang/IllegalArgumentException" ∧ wb_X0_note_23 G P r3 M7 u6) ∨ (E9 = "java/lang/IllegalStateException" ∧ wb_X0_note_27 G P r3 M7 u6) ∨ (E9 = "java/lang/IndexOutOfBoundsException" ∧ wb_X0_note_19 G P r3 M7 u6)) M a0 x1 x2 x3 x4 x5)
set_option maxHeartbeats 4000000 in
set_option maxRecDepth 100000 in
theorem wk_X0_note {l : Launch} (hst0 : l.stackTraces = false) {G : mG} {b : Nat} {P : Int32 → mM → Prop} {M : mM} {a0 : Nat} {x1 : Int32} {x2 : Int32} {x3 : Int32} {x4 : Int32} {x5 : Int32} {a6 : Nat} (h : wp_X0_note G b P M a0 x1 x2 x3 x4 x5 a6) : mMet l yX0_note (wsW_ yX0_note cX0_note 8 (Option.some Jvm.ClassFile.FieldType.int) [((0 : Nat), (16 : Nat), (19 : Nat), (13 : Nat)), ((0 : Nat), (16 : Nat), (23 : Nat), (15 : Nat)), ((0 : Nat), (16 : Nat), (27 : Nat), (35 : Nat))]) 17 b G [.ref a0, .int x1, .int x2, .int x3, .int x4, .int x5, .ref a6] M (mRi P) (fun _ _ _ => False) := by
  refine mm_metW hst0 (by decide) (Nat.le_of_ble_eq_true rfl) ?_
  intro p e s m args below meth c ls C hr htab hnm hl S
  have hl : lv_has ls 8 [(0, .ref a0), (1, .int x1), (2, .int x2), (3, .int x3), (4, .int x4), (5, .int x5), (6, .ref a6)] := hl
  generalize mA M s.heap.size = A at C S ⊢
  have hx := C.hx
  have hb := C.hb
  have hk : 0 + b ≤ b := Nat.le_of_eq (Nat.zero_add b)
  have j19 : ∀ (k r : Nat) (M : mM) (H : Heap) (locs : List Loc) (ls : Array Slot) (s0 : Nat), k + r ≤ b → mW G A s M H locs → lv_has ls 8 [] → wb_X0_note_19 G P r M s0 → W p l e (mRm 17 b) s m args below meth c H locs k k (vx_MQ below (mQ G A (mRi P)) (mXC G A (fun _ _ _ => False)) args s b b A) (F0 m 19 ls [.ref s0]) := by
    intro k r M H locs ls s0 hk S hl h
    unfold wb_X0_note_19 at h
    refine lv_astore (lv' := [(7, .ref s0)]) hx hb dX0_note_19 hl (by decide) rfl (fun ls hl => ?_)
    refine lv_iconst (v := 1) hx hb dX0_note_21 (by decide) ?_
    exact mm_iret C S hr (Nat.le_trans (Nat.le_add_right _ _) hk) dX0_note_22 h
  have j23 : ∀ (k r : Nat) (M : mM) (H : Heap) (locs : List Loc) (ls : Array Slot) (s0 : Nat), k + r ≤ b → mW G A s M H locs → lv_has ls 8 [] → wb_X0_note_23 G P r M s0 → W p l e (mRm 17 b) s m args below meth c H locs k k (vx_MQ below (mQ G A (mRi P)) (mXC G A (fun _ _ _ => False)) args s b b A) (F0 m 23 ls [.ref s0]) := by
    intro k r M H locs ls s0 hk S hl h
    unfold wb_X0_note_23 at h
    refine lv_astore (lv' := [(7, .ref s0)]) hx hb dX0_note_23 hl (by decide) rfl (fun ls hl => ?_)
    refine lv_iconst (v := 2) hx hb dX0_note_25 (by decide) ?_
    exact mm_iret C S hr (Nat.le_trans (Nat.le_add_right _ _) hk) dX0_note_26 h
  have j27 : ∀ (k r : Nat) (M : mM) (H : Heap) (locs : List Loc) (ls : Array Slot) (s0 : Nat), k + r ≤ b → mW G A s M H locs → lv_has ls 8 [] → wb_X0_note_27 G P r M s0 → W p l e (mRm 17 b) s m args below meth c H locs k k (vx_MQ below (mQ G A (mRi P)) (mXC G A (fun _ _ _ => False)) args s b b A) (F0 m 27 ls [.ref s0]) := by
    intro k r M H locs ls s0 hk S hl h
    unfold wb_X0_note_27 at h
    refine lv_astore (lv' := [(7, .ref s0)]) hx hb dX0_note_27 hl (by decide) rfl (fun ls hl => ?_)
    refine lv_iconst (v := 3) hx hb dX0_note_29 (by decide) ?_
    exact mm_iret C S hr (Nat.le_trans (Nat.le_add_right _ _) hk) dX0_note_30 h
  unfold wp_X0_note at h
  refine lv_aload hx hb dX0_note_0 (lv_at hl 6 rfl) ?_
  refine lv_iconst (v := 0) hx hb dX0_note_2 (by decide) ?_
  refine lv_aload_n hx hb dX0_note_3 rfl (lv_at hl 0 rfl) ?_
  refine lv_iload_n hx hb dX0_note_4 rfl (lv_at hl 1 rfl) ?_
  refine lv_iload_n hx hb dX0_note_5 rfl (lv_at hl 2 rfl) ?_
  refine lv_iload_n hx hb dX0_note_6 rfl (lv_at hl 3 rfl) ?_
  refine lv_iload hx hb dX0_note_7 (lv_at hl 4 rfl) ?_
  refine lv_iload hx hb dX0_note_9 (lv_at hl 5 rfl) ?_
  obtain ⟨hI, h⟩ := h
  obtain ⟨b2, r3, hb9, h⟩ := h
  refine mm_V (As := [.int x1, .int x2, .int x3, .int x4, .int x5]) (rest := [.int 0, .ref a6]) C S hl.1 (wk_X1_note hst0 h) (T := TX1) rfl hI (lw_V q1524 q1525 q1526 q48 q1527) rfl pd_X1_note ⟨Nat.le_of_ble_eq_true rfl, Nat.le_of_ble_eq_true rfl⟩ rfl rfl (Nat.le_of_ble_eq_true rfl) dX0_note_11 rfl rfl hk hb9 (fun v9 M1 H locs hP S hk => ?_) (fun E u6 ce M7 H locs hX S hk hc9 hv9 hf9 => ?_)
  · obtain ⟨v4, rfl, h⟩ := hP
    refine W.eq (g2 := F0 m 14 ls [.int v4, .int 0, .ref a6]) rfl ?_
    refine lv_i2l hx hb dX0_note_14 rfl ?_
    refine mm_last C S h dX0_note_15 (fun M5 H locs h S => ?_)
    refine lv_goto (tgt := 31) hx hb dX0_note_16 (by decide) ?_
    refine lv_iconst (v := 0) hx hb dX0_note_31 (by decide) ?_
    exact mm_iret C S hr (Nat.le_trans (Nat.le_add_right _ _) hk) dX0_note_32 h
  · rcases hX with ⟨rfl, h⟩ | ⟨rfl, h⟩ | ⟨rfl, h⟩
    · refine vx_catch (pc := 11) (name := "java/lang/IllegalArgumentException") C.hown [(⟨0, 16, 19, 13⟩ : ExceptionTableEntry)] (⟨0, 16, 23, 15⟩ : ExceptionTableEntry) [(⟨0, 16, 27, 35⟩ : ExceptionTableEntry)] htab (mm_pass1 C (nm := "java/lang/IndexOutOfBoundsException") (by decide) q431 (by decide) mm_pass0) (by decide) (by decide) (C.ts _ q511) (va_Nw.use rfl (C.nw q548 rfl)) hc9 hv9 hf9 ?_
      exact j23 _ _ _ _ _ _ _ hk S (lv_sub hl [] rfl) h
    · refine vx_catch (pc := 11) (name := "java/lang/IllegalStateException") C.hown [(⟨0, 16, 19, 13⟩ : ExceptionTableEntry), (⟨0, 16, 23, 15⟩ : ExceptionTableEntry)] (⟨0, 16, 27, 35⟩ : ExceptionTableEntry) [] htab (mm_pass1 C (nm := "java/lang/IndexOutOfBoundsException") (by decide) q431 (by decide) (mm_pass1 C (nm := "java/lang/IllegalArgumentException") (by decide) q511 (by decide) mm_pass0)) (by decide) (by decide) (C.ts _ q601) (va_Nw.use rfl (C.nw q611 rfl)) hc9 hv9 hf9 ?_
      exact j27 _ _ _ _ _ _ _ hk S (lv_sub hl [] rfl) h
    · refine vx_catch (pc := 11) (name := "java/lang/IndexOutOfBoundsException") C.hown [] (⟨0, 16, 19, 13⟩ : ExceptionTableEntry) [(⟨0, 16, 23, 15⟩ : ExceptionTableEntry), (⟨0, 16, 27, 35⟩ : ExceptionTableEntry)] htab mm_pass0 (by decide) (by decide) (C.ts _ q431) (va_Nw.use rfl (C.nw q521 rfl)) hc9 hv9 hf9 ?_
      exact j19 _ _ _ _ _ _ _ hk S (lv_sub hl [] rfl) h
/-! X1_joined: level 10 -/
def wb_X1_joined_183 (G : mG) (P : Int32 → mM → Prop) (r : Nat) (M : mM) (s0 : Int32) : Prop :=
  P s0 M
def wb_X1_joined_154 (G : mG) (P : Int32 → mM → Prop) (K9 : Nat → mM → Nat → Int32 → Int32 → Int32 → Int32 → Int32 → Int32 → Int32 → Prop) (r : Nat) (M : mM) (a0 : Nat) (x1 : Int32) (x2 : Int32) (x3 : Int32) (x4 : Int32) (x5 : Int32) (x7 : Int32) (s0 : Int32) : Prop :=
  ∀ g10 : Int32, g10 = (if x5 < s0 then s0 else x5) → K9 r M a0 x1 x2 x3 x4 x5 g10 (x7 + 1)
def wb_X1_joined_125 (G : mG) (P : Int32 → mM → Prop) (K9 : Nat → mM → Nat → Int32 → Int32 → Int32 → Int32 → Int32 → Int32 → Int32 → Prop) (r : Nat) (M : mM) (a0 : Nat) (x1 : Int32) (x2 : Int32) (x3 : Int32) (x4 : Int32) (x7 : Int32) (x10 : Int32) (x11 : Int32) (x12 : Int32) (x14 : Int32) (s0 : Int32) : Prop :=
  (¬ x12 = 0 → (x11 = 0 → wb_X1_joined_154 G P K9 r M a0 x1 x2 x3 x4 s0 x7 x10) ∧ (¬ x11 = 0 → ∀ g9 : Int32, g9 = (if x10 < x14 then x10 else x14) → wb_X1_joined_154 G P K9 r M a0 x1 x2 x3 x4 s0 x7 g9)) ∧ (x12 = 0 → wb_X1_joined_154 G P K9 r M a0 x1 x2 x3 x4 s0 x7 x14)
def wb_X1_joined_106 (G : mG) (P : Int32 → mM → Prop) (K9 : Nat → mM → Nat → Int32 → Int32 → Int32 → Int32 → Int32 → Int32 → Int32 → Prop) (r : Nat) (M : mM) (a0 : Nat) (x1 : Int32) (x2 : Int32) (x3 : Int32) (x4 : Int32) (x7 : Int32) (x9 : Int32) (x10 : Int32) (x11 : Int32) (x12 : Int32) (x13 : Int32) (s0 : Int32) : Prop :=
  (x12 = 0 → wb_X1_joined_125 G P K9 r M a0 x1 x2 x3 x4 x7 x10 x11 x12 s0 x13) ∧ (¬ x12 = 0 → ∀ g8 : Int32, g8 = (if x13 < x9 then x9 else x13) → wb_X1_joined_125 G P K9 r M a0 x1 x2 x3 x4 x7 x10 x11 x12 s0 g8)
def wb_X1_joined_89 (G : mG) (P : Int32 → mM → Prop) (K9 : Nat → mM → Nat → Int32 → Int32 → Int32 → Int32 → Int32 → Int32 → Int32 → Prop) (r : Nat) (M : mM) (a0 : Nat) (x1 : Int32) (x2 : Int32) (x3 : Int32) (x4 : Int32) (x6 : Int32) (x7 : Int32) (x9 : Int32) (x10 : Int32) (x11 : Int32) (x12 : Int32) (s0 : Int32) : Prop :=
  (x11 = 0 → wb_X1_joined_106 G P K9 r M a0 x1 x2 x3 x4 x7 x9 x10 x11 x12 s0 (-1)) ∧ (¬ x11 = 0 → wb_X1_joined_106 G P K9 r M a0 x1 x2 x3 x4 x7 x9 x10 x11 x12 s0 ((2 * x6) + 1))
def wb_X1_joined_74 (G : mG) (P : Int32 → mM → Prop) (K9 : Nat → mM → Nat → Int32 → Int32 → Int32 → Int32 → Int32 → Int32 → Int32 → Prop) (r : Nat) (M : mM) (a0 : Nat) (x1 : Int32) (x2 : Int32) (x3 : Int32) (x4 : Int32) (x5 : Int32) (x6 : Int32) (x7 : Int32) (x9 : Int32) (x10 : Int32) (x11 : Int32) (s0 : Int32) : Prop :=
  (x11 = 0 → wb_X1_joined_89 G P K9 r M a0 x1 x2 x3 x4 x6 x7 x9 x10 x11 s0 (-1)) ∧ (¬ x11 = 0 → wb_X1_joined_89 G P K9 r M a0 x1 x2 x3 x4 x6 x7 x9 x10 x11 s0 (x5 / 2))
def wb_X1_joined_61 (G : mG) (P : Int32 → mM → Prop) (K9 : Nat → mM → Nat → Int32 → Int32 → Int32 → Int32 → Int32 → Int32 → Int32 → Prop) (r : Nat) (M : mM) (a0 : Nat) (x1 : Int32) (x2 : Int32) (x3 : Int32) (x4 : Int32) (x5 : Int32) (x6 : Int32) (x7 : Int32) (x9 : Int32) (x10 : Int32) (s0 : Int32) : Prop :=
  (x9 = (-1) → wb_X1_joined_74 G P K9 r M a0 x1 x2 x3 x4 x5 x6 x7 x9 x10 s0 0) ∧ (¬ x9 = (-1) → wb_X1_joined_74 G P K9 r M a0 x1 x2 x3 x4 x5 x6 x7 x9 x10 s0 1)
def wl_X1_joined_9 (G : mG) (P : Int32 → mM → Prop) : Nat → Nat → mM → Nat → Int32 → Int32 → Int32 → Int32 → Int32 → Int32 → Int32 → Prop
  | 0, _, _, _, _, _, _, _, _, _, _ => False
  | n + 1, r, M, a0, x1, x2, x3, x4, x5, x6, x7 => (x3 < x7 → (x4 = 0 → wb_X1_joined_183 G P r M x5) ∧ (¬ x4 = 0 → wb_X1_joined_183 G P r M x6)) ∧ (¬ x3 < x7 → gfa M a0 0 10 fun u1 => lda M 8 u1 ((4 * x7) + x2) fun u2 => ldi M 0 u2 x1 fun v3 => gfa M a0 0 11 fun u4 => lda M 8 u4 ((4 * x7) + x2) fun u5 => ldi M 0 u5 x1 fun v6 => ∀ g7 : Int32, g7 = (if v3 < v6 then v6 else v3) → (x5 = (-1) → wb_X1_joined_61 G P (wl_X1_joined_9 G P n) r M a0 x1 x2 x3 x4 x5 x6 x7 v3 g7 0) ∧ (¬ x5 = (-1) → wb_X1_joined_61 G P (wl_X1_joined_9 G P n) r M a0 x1 x2 x3 x4 x5 x6 x7 v3 g7 1))
def wp_X1_joined (G : mG) (b : Nat) (P : Int32 → mM → Prop) (M : mM) (a0 : Nat) (x1 : Int32) (x2 : Int32) (x3 : Int32) (x4 : Int32) : Prop :=
  ∃ n9, wl_X1_joined_9 G P n9 b M a0 x1 x2 x3 x4 (-1) (-1) 0
set_option maxHeartbeats 4000000 in
set_option maxRecDepth 100000 in
theorem wk_X1_joined {l : Launch} (hst0 : l.stackTraces = false) {G : mG} {b : Nat} {P : Int32 → mM → Prop} {M : mM} {a0 : Nat} {x1 : Int32} {x2 : Int32} {x3 : Int32} {x4 : Int32} (h : wp_X1_joined G b P M a0 x1 x2 x3 x4) : mMet l yX1_joined (ws_ yX1_joined cX1_joined 15 (Option.some Jvm.ClassFile.FieldType.int)) 10 b G [.ref a0, .int x1, .int x2, .int x3, .int x4] M (mRi P) (fun _ _ _ => False) := by
  refine mm_met hst0 (by decide) (Nat.le_of_ble_eq_true rfl) ?_
  intro p e s m args below meth c ls C hr hnt hnm hl S
  have hl : lv_has ls 15 [(0, .ref a0), (1, .int x1), (2, .int x2), (3, .int x3), (4, .int x4)] := hl
  generalize mA M s.heap.size = A at C S ⊢
  have hx := C.hx
  have hb := C.hb
  have hk : 0 + b ≤ b := Nat.le_of_eq (Nat.zero_add b)
  have j183 : ∀ (k r : Nat) (M : mM) (H : Heap) (locs : List Loc) (ls : Array Slot) (s0 : Int32), k + r ≤ b → mW G A s M H locs → lv_has ls 15 [] → wb_X1_joined_183 G P r M s0 → W p l e (mRm 10 b) s m args below meth c H locs k k (vx_MQ below (mQ G A (mRi P)) (mXC G A (fun _ _ _ => False)) args s b b A) (F0 m 183 ls [.int s0]) := by
    intro k r M H locs ls s0 hk S hl h
    unfold wb_X1_joined_183 at h
    exact mm_iret C S hr (Nat.le_trans (Nat.le_add_right _ _) hk) dX1_joined_183 h
  have j9 : ∀ (nf : Nat) (k r : Nat) (M : mM) (H : Heap) (locs : List Loc) (ls : Array Slot) (a0 : Nat) (x1 : Int32) (x2 : Int32) (x3 : Int32) (x4 : Int32) (x5 : Int32) (x6 : Int32) (x7 : Int32), k + r ≤ b → mW G A s M H locs → lv_has ls 15 [(0, .ref a0), (1, .int x1), (2, .int x2), (3, .int x3), (4, .int x4), (5, .int x5), (6, .int x6), (7, .int x7)] → wl_X1_joined_9 G P nf r M a0 x1 x2 x3 x4 x5 x6 x7 → W p l e (mRm 10 b) s m args below meth c H locs k k (vx_MQ below (mQ G A (mRi P)) (mXC G A (fun _ _ _ => False)) args s b b A) (F0 m 9 ls []) := by
    intro nf
    induction nf with
    | zero =>
      intro k r M H locs ls a0 x1 x2 x3 x4 x5 x6 x7 hk S hl h
      rw [wl_X1_joined_9] at h
      exact h.elim
    | succ n9 ih9 =>
      have j154 : ∀ (k r : Nat) (M : mM) (H : Heap) (locs : List Loc) (ls : Array Slot) (a0 : Nat) (x1 : Int32) (x2 : Int32) (x3 : Int32) (x4 : Int32) (x5 : Int32) (x7 : Int32) (s0 : Int32), k + r ≤ b → mW G A s M H locs → lv_has ls 15 [(0, .ref a0), (1, .int x1), (2, .int x2), (3, .int x3), (4, .int x4), (5, .int x5), (7, .int x7)] → wb_X1_joined_154 G P (wl_X1_joined_9 G P n9) r M a0 x1 x2 x3 x4 x5 x7 s0 → W p l e (mRm 10 b) s m args below meth c H locs k k (vx_MQ below (mQ G A (mRi P)) (mXC G A (fun _ _ _ => False)) args s b b A) (F0 m 154 ls [.int s0]) := by
        intro k r M H locs ls a0 x1 x2 x3 x4 x5 x7 s0 hk S hl h
        unfold wb_X1_joined_154 at h
        refine lv_istore (lv' := [(6, .int s0), (0, .ref a0), (1, .int x1), (2, .int x2), (3, .int x3), (4, .int x4), (5, .int x5), (7, .int x7)]) hx hb dX1_joined_154 hl (by decide) rfl (fun ls hl => ?_)
        refine lv_iload hx hb dX1_joined_156 (lv_at hl 6 rfl) ?_
        refine lv_iload hx hb dX1_joined_158 (lv_at hl 0 rfl) ?_
        refine mm_max C hl.1 q327 q328 q68 q329 (Nat.le_of_ble_eq_true rfl) (Nat.le_of_ble_eq_true rfl) (Nat.le_trans (Nat.le_add_right _ _) hk) (Nat.le_trans (Nat.le_add_right _ _) hk) dX1_joined_160 ?_
        refine lv_topi (fun g10 eg10 => ?_)
        have h := h g10 eg10
        refine lv_istore (lv' := [(6, .int g10), (0, .ref a0), (1, .int x1), (2, .int x2), (3, .int x3), (4, .int x4), (5, .int x5), (7, .int x7)]) hx hb dX1_joined_163 hl (by decide) rfl (fun ls hl => ?_)
        refine lv_iinc (v := (x7 + 1)) (lv' := [(7, .int (x7 + 1)), (6, .int g10), (0, .ref a0), (1, .int x1), (2, .int x2), (3, .int x3), (4, .int x4), (5, .int x5)]) hx hb dX1_joined_165 hl (k := 7) rfl rfl (by decide) rfl (fun ls hl => ?_)
        refine lv_goto (tgt := 9) hx hb dX1_joined_168 (by decide) ?_
        exact ih9 _ _ _ _ _ _ _ _ _ _ _ _ _ _ hk S (lv_sub hl [2, 3, 4, 5, 6, 7, 1, 0] rfl) h
      have j125 : ∀ (k r : Nat) (M : mM) (H : Heap) (locs : List Loc) (ls : Array Slot) (a0 : Nat) (x1 : Int32) (x2 : Int32) (x3 : Int32) (x4 : Int32) (x7 : Int32) (x10 : Int32) (x11 : Int32) (x12 : Int32) (x14 : Int32) (s0 : Int32), k + r ≤ b → mW G A s M H locs → lv_has ls 15 [(0, .ref a0), (1, .int x1), (2, .int x2), (3, .int x3), (4, .int x4), (7, .int x7), (10, .int x10), (11, .int x11), (12, .int x12), (14, .int x14)] → wb_X1_joined_125 G P (wl_X1_joined_9 G P n9) r M a0 x1 x2 x3 x4 x7 x10 x11 x12 x14 s0 → W p l e (mRm 10 b) s m args below meth c H locs k k (vx_MQ below (mQ G A (mRi P)) (mXC G A (fun _ _ _ => False)) args s b b A) (F0 m 125 ls [.int s0]) := by
        intro k r M H locs ls a0 x1 x2 x3 x4 x7 x10 x11 x12 x14 s0 hk S hl h
        unfold wb_X1_joined_125 at h
        refine lv_istore (lv' := [(5, .int s0), (0, .ref a0), (1, .int x1), (2, .int x2), (3, .int x3), (4, .int x4), (7, .int x7), (10, .int x10), (11, .int x11), (12, .int x12), (14, .int x14)]) hx hb dX1_joined_125 hl (by decide) rfl (fun ls hl => ?_)
        refine lv_iload hx hb dX1_joined_127 (lv_at hl 9 rfl) ?_
        refine lv_if_ne (tgt := 137) hx hb dX1_joined_129 (by decide) (fun c9 => ?_) (fun c9 => ?_)
        · have h := h.1 c9
          refine lv_iload hx hb dX1_joined_137 (lv_at hl 8 rfl) ?_
          refine lv_if_eq (tgt := 152) hx hb dX1_joined_139 (by decide) (fun c9 => ?_) (fun c9 => ?_)
          · have h := h.1 c9
            refine lv_iload hx hb dX1_joined_152 (lv_at hl 7 rfl) ?_
            exact j154 _ _ _ _ _ _ _ _ _ _ _ _ _ _ hk S (lv_sub hl [1, 2, 3, 4, 5, 0, 6] rfl) h
          · have h := h.2 c9
            refine lv_iload hx hb dX1_joined_142 (lv_at hl 10 rfl) ?_
            refine lv_iload hx hb dX1_joined_144 (lv_at hl 7 rfl) ?_
            refine mm_min C hl.1 q341 q331 q68 q332 (Nat.le_of_ble_eq_true rfl) (Nat.le_of_ble_eq_true rfl) (Nat.le_trans (Nat.le_add_right _ _) hk) (Nat.le_trans (Nat.le_add_right _ _) hk) dX1_joined_146 ?_
            refine lv_topi (fun g9 eg9 => ?_)
            have h := h g9 eg9
            refine lv_goto (tgt := 154) hx hb dX1_joined_149 (by decide) ?_
            exact j154 _ _ _ _ _ _ _ _ _ _ _ _ _ _ hk S (lv_sub hl [1, 2, 3, 4, 5, 0, 6] rfl) h
        · have h := h.2 c9
          refine lv_iload hx hb dX1_joined_132 (lv_at hl 10 rfl) ?_
          refine lv_goto (tgt := 154) hx hb dX1_joined_134 (by decide) ?_
          exact j154 _ _ _ _ _ _ _ _ _ _ _ _ _ _ hk S (lv_sub hl [1, 2, 3, 4, 5, 0, 6] rfl) h
      have j106 : ∀ (k r : Nat) (M : mM) (H : Heap) (locs : List Loc) (ls : Array Slot) (a0 : Nat) (x1 : Int32) (x2 : Int32) (x3 : Int32) (x4 : Int32) (x7 : Int32) (x9 : Int32) (x10 : Int32) (x11 : Int32) (x12 : Int32) (x13 : Int32) (s0 : Int32), k + r ≤ b → mW G A s M H locs → lv_has ls 15 [(0, .ref a0), (1, .int x1), (2, .int x2), (3, .int x3), (4, .int x4), (7, .int x7), (9, .int x9), (10, .int x10), (11, .int x11), (12, .int x12), (13, .int x13)] → wb_X1_joined_106 G P (wl_X1_joined_9 G P n9) r M a0 x1 x2 x3 x4 x7 x9 x10 x11 x12 x13 s0 → W p l e (mRm 10 b) s m args below meth c H locs k k (vx_MQ below (mQ G A (mRi P)) (mXC G A (fun _ _ _ => False)) args s b b A) (F0 m 106 ls [.int s0]) := by
        intro k r M H locs ls a0 x1 x2 x3 x4 x7 x9 x10 x11 x12 x13 s0 hk S hl h
        unfold wb_X1_joined_106 at h
        refine lv_istore (lv' := [(14, .int s0), (0, .ref a0), (1, .int x1), (2, .int x2), (3, .int x3), (4, .int x4), (7, .int x7), (9, .int x9), (10, .int x10), (11, .int x11), (12, .int x12), (13, .int x13)]) hx hb dX1_joined_106 hl (by decide) rfl (fun ls hl => ?_)
        refine lv_iload hx hb dX1_joined_108 (lv_at hl 10 rfl) ?_
        refine lv_if_eq (tgt := 123) hx hb dX1_joined_110 (by decide) (fun c9 => ?_) (fun c9 => ?_)
        · have h := h.1 c9
          refine lv_iload hx hb dX1_joined_123 (lv_at hl 11 rfl) ?_
          exact j125 _ _ _ _ _ _ _ _ _ _ _ _ _ _ _ _ _ hk S (lv_sub hl [1, 2, 3, 4, 5, 6, 8, 9, 10, 0] rfl) h
        · have h := h.2 c9
          refine lv_iload hx hb dX1_joined_113 (lv_at hl 11 rfl) ?_
          refine lv_iload hx hb dX1_joined_115 (lv_at hl 7 rfl) ?_
          refine mm_max C hl.1 q327 q328 q68 q329 (Nat.le_of_ble_eq_true rfl) (Nat.le_of_ble_eq_true rfl) (Nat.le_trans (Nat.le_add_right _ _) hk) (Nat.le_trans (Nat.le_add_right _ _) hk) dX1_joined_117 ?_
          refine lv_topi (fun g8 eg8 => ?_)
          have h := h g8 eg8
          refine lv_goto (tgt := 125) hx hb dX1_joined_120 (by decide) ?_
          exact j125 _ _ _ _ _ _ _ _ _ _ _ _ _ _ _ _ _ hk S (lv_sub hl [1, 2, 3, 4, 5, 6, 8, 9, 10, 0] rfl) h
      have j89 : ∀ (k r : Nat) (M : mM) (H : Heap) (locs : List Loc) (ls : Array Slot) (a0 : Nat) (x1 : Int32) (x2 : Int32) (x3 : Int32) (x4 : Int32) (x6 : Int32) (x7 : Int32) (x9 : Int32) (x10 : Int32) (x11 : Int32) (x12 : Int32) (s0 : Int32), k + r ≤ b → mW G A s M H locs → lv_has ls 15 [(0, .ref a0), (1, .int x1), (2, .int x2), (3, .int x3), (4, .int x4), (6, .int x6), (7, .int x7), (9, .int x9), (10, .int x10), (11, .int x11), (12, .int x12)] → wb_X1_joined_89 G P (wl_X1_joined_9 G P n9) r M a0 x1 x2 x3 x4 x6 x7 x9 x10 x11 x12 s0 → W p l e (mRm 10 b) s m args below meth c H locs k k (vx_MQ below (mQ G A (mRi P)) (mXC G A (fun _ _ _ => False)) args s b b A) (F0 m 89 ls [.int s0]) := by
        intro k r M H locs ls a0 x1 x2 x3 x4 x6 x7 x9 x10 x11 x12 s0 hk S hl h
        unfold wb_X1_joined_89 at h
        refine lv_istore (lv' := [(13, .int s0), (0, .ref a0), (1, .int x1), (2, .int x2), (3, .int x3), (4, .int x4), (6, .int x6), (7, .int x7), (9, .int x9), (10, .int x10), (11, .int x11), (12, .int x12)]) hx hb dX1_joined_89 hl (by decide) rfl (fun ls hl => ?_)
        refine lv_iload hx hb dX1_joined_91 (lv_at hl 10 rfl) ?_
        refine lv_if_eq (tgt := 105) hx hb dX1_joined_93 (by decide) (fun c9 => ?_) (fun c9 => ?_)
        · have h := h.1 c9
          refine lv_iconst (v := (-1)) hx hb dX1_joined_105 (by decide) ?_
          exact j106 _ _ _ _ _ _ _ _ _ _ _ _ _ _ _ _ _ _ hk S (lv_sub hl [1, 2, 3, 4, 5, 7, 8, 9, 10, 11, 0] rfl) h
        · have h := h.2 c9
          refine lv_iconst (v := 2) hx hb dX1_joined_96 (by decide) ?_
          refine lv_iload hx hb dX1_joined_97 (lv_at hl 6 rfl) ?_
          refine lv_imul hx hb dX1_joined_99 ?_
          refine lv_iconst (v := 1) hx hb dX1_joined_100 (by decide) ?_
          refine lv_iadd hx hb dX1_joined_101 ?_
          refine lv_goto (tgt := 106) hx hb dX1_joined_102 (by decide) ?_
          exact j106 _ _ _ _ _ _ _ _ _ _ _ _ _ _ _ _ _ _ hk S (lv_sub hl [1, 2, 3, 4, 5, 7, 8, 9, 10, 11, 0] rfl) h
      have j74 : ∀ (k r : Nat) (M : mM) (H : Heap) (locs : List Loc) (ls : Array Slot) (a0 : Nat) (x1 : Int32) (x2 : Int32) (x3 : Int32) (x4 : Int32) (x5 : Int32) (x6 : Int32) (x7 : Int32) (x9 : Int32) (x10 : Int32) (x11 : Int32) (s0 : Int32), k + r ≤ b → mW G A s M H locs → lv_has ls 15 [(0, .ref a0), (1, .int x1), (2, .int x2), (3, .int x3), (4, .int x4), (5, .int x5), (6, .int x6), (7, .int x7), (9, .int x9), (10, .int x10), (11, .int x11)] → wb_X1_joined_74 G P (wl_X1_joined_9 G P n9) r M a0 x1 x2 x3 x4 x5 x6 x7 x9 x10 x11 s0 → W p l e (mRm 10 b) s m args below meth c H locs k k (vx_MQ below (mQ G A (mRi P)) (mXC G A (fun _ _ _ => False)) args s b b A) (F0 m 74 ls [.int s0]) := by
        intro k r M H locs ls a0 x1 x2 x3 x4 x5 x6 x7 x9 x10 x11 s0 hk S hl h
        unfold wb_X1_joined_74 at h
        refine lv_istore (lv' := [(12, .int s0), (0, .ref a0), (1, .int x1), (2, .int x2), (3, .int x3), (4, .int x4), (5, .int x5), (6, .int x6), (7, .int x7), (9, .int x9), (10, .int x10), (11, .int x11)]) hx hb dX1_joined_74 hl (by decide) rfl (fun ls hl => ?_)
        refine lv_iload hx hb dX1_joined_76 (lv_at hl 11 rfl) ?_
        refine lv_if_eq (tgt := 88) hx hb dX1_joined_78 (by decide) (fun c9 => ?_) (fun c9 => ?_)
        · have h := h.1 c9
          refine lv_iconst (v := (-1)) hx hb dX1_joined_88 (by decide) ?_
          exact j89 _ _ _ _ _ _ _ _ _ _ _ _ _ _ _ _ _ _ hk S (lv_sub hl [1, 2, 3, 4, 5, 7, 8, 9, 10, 11, 0] rfl) h
        · have h := h.2 c9
          refine lv_iload hx hb dX1_joined_81 (lv_at hl 6 rfl) ?_
          refine lv_iconst (v := 2) hx hb dX1_joined_83 (by decide) ?_
          refine lv_idiv hx hb dX1_joined_84 (by decide) ?_
          refine lv_goto (tgt := 89) hx hb dX1_joined_85 (by decide) ?_
          exact j89 _ _ _ _ _ _ _ _ _ _ _ _ _ _ _ _ _ _ hk S (lv_sub hl [1, 2, 3, 4, 5, 7, 8, 9, 10, 11, 0] rfl) h
      have j61 : ∀ (k r : Nat) (M : mM) (H : Heap) (locs : List Loc) (ls : Array Slot) (a0 : Nat) (x1 : Int32) (x2 : Int32) (x3 : Int32) (x4 : Int32) (x5 : Int32) (x6 : Int32) (x7 : Int32) (x9 : Int32) (x10 : Int32) (s0 : Int32), k + r ≤ b → mW G A s M H locs → lv_has ls 15 [(0, .ref a0), (1, .int x1), (2, .int x2), (3, .int x3), (4, .int x4), (5, .int x5), (6, .int x6), (7, .int x7), (9, .int x9), (10, .int x10)] → wb_X1_joined_61 G P (wl_X1_joined_9 G P n9) r M a0 x1 x2 x3 x4 x5 x6 x7 x9 x10 s0 → W p l e (mRm 10 b) s m args below meth c H locs k k (vx_MQ below (mQ G A (mRi P)) (mXC G A (fun _ _ _ => False)) args s b b A) (F0 m 61 ls [.int s0]) := by
        intro k r M H locs ls a0 x1 x2 x3 x4 x5 x6 x7 x9 x10 s0 hk S hl h
        unfold wb_X1_joined_61 at h
        refine lv_istore (lv' := [(11, .int s0), (0, .ref a0), (1, .int x1), (2, .int x2), (3, .int x3), (4, .int x4), (5, .int x5), (6, .int x6), (7, .int x7), (9, .int x9), (10, .int x10)]) hx hb dX1_joined_61 hl (by decide) rfl (fun ls hl => ?_)
        refine lv_iload hx hb dX1_joined_63 (lv_at hl 9 rfl) ?_
        refine lv_iconst (v := (-1)) hx hb dX1_joined_65 (by decide) ?_
        refine lv_icmp_eq (tgt := 73) hx hb dX1_joined_66 (by decide) (fun c9 => ?_) (fun c9 => ?_)
        · have h := h.1 c9
          refine lv_iconst (v := 0) hx hb dX1_joined_73 (by decide) ?_
          exact j74 _ _ _ _ _ _ _ _ _ _ _ _ _ _ _ _ _ _ hk S (lv_sub hl [1, 2, 3, 4, 5, 6, 7, 8, 9, 10, 0] rfl) h
        · have h := h.2 c9
          refine lv_iconst (v := 1) hx hb dX1_joined_69 (by decide) ?_
          refine lv_goto (tgt := 74) hx hb dX1_joined_70 (by decide) ?_
          exact j74 _ _ _ _ _ _ _ _ _ _ _ _ _ _ _ _ _ _ hk S (lv_sub hl [1, 2, 3, 4, 5, 6, 7, 8, 9, 10, 0] rfl) h
      intro k r M H locs ls a0 x1 x2 x3 x4 x5 x6 x7 hk S hl h
      rw [wl_X1_joined_9] at h
      refine lv_iload hx hb dX1_joined_9 (lv_at hl 7 rfl) ?_
      refine lv_iload_n hx hb dX1_joined_11 rfl (lv_at hl 3 rfl) ?_
      refine lv_icmp_gt (tgt := 171) hx hb dX1_joined_12 (by decide) (fun c9 => ?_) (fun c9 => ?_)
      · have h := h.1 c9
        refine lv_iload hx hb dX1_joined_171 (lv_at hl 4 rfl) ?_
        refine lv_if_eq (tgt := 181) hx hb dX1_joined_173 (by decide) (fun c9 => ?_) (fun c9 => ?_)
        · have h := h.1 c9
          refine lv_iload hx hb dX1_joined_181 (lv_at hl 5 rfl) ?_
          exact j183 _ _ _ _ _ _ _ hk S (lv_sub hl [] rfl) h
        · have h := h.2 c9
          refine lv_iload hx hb dX1_joined_176 (lv_at hl 6 rfl) ?_
          refine lv_goto (tgt := 183) hx hb dX1_joined_178 (by decide) ?_
          exact j183 _ _ _ _ _ _ _ hk S (lv_sub hl [] rfl) h
      · have h := h.2 c9
        refine lv_iconst (v := 4) hx hb dX1_joined_15 (by decide) ?_
        refine lv_iload hx hb dX1_joined_16 (lv_at hl 7 rfl) ?_
        refine lv_imul hx hb dX1_joined_18 ?_
        refine lv_iload_n hx hb dX1_joined_19 rfl (lv_at hl 2 rfl) ?_
        refine lv_iadd hx hb dX1_joined_20 ?_
        refine lv_istore (lv' := [(8, .int ((4 * x7) + x2)), (0, .ref a0), (1, .int x1), (2, .int x2), (3, .int x3), (4, .int x4), (5, .int x5), (6, .int x6), (7, .int x7)]) hx hb dX1_joined_21 hl (by decide) rfl (fun ls hl => ?_)
        refine lv_aload_n hx hb dX1_joined_23 rfl (lv_at hl 1 rfl) ?_
        refine mm_gfa C S (ci := 0) (k := 10) rfl in_X1 (by decide) q225 (fun _ h9 => h9) dX1_joined_24 h (fun u1 h => ?_)
        refine lv_iload hx hb dX1_joined_27 (lv_at hl 0 rfl) ?_
        refine mm_aald C S (t := 8) rfl rfl h dX1_joined_29 (fun u2 h => ?_)
        refine lv_iload_n hx hb dX1_joined_30 rfl (lv_at hl 2 rfl) ?_
        refine mm_iald C S h dX1_joined_31 (fun v3 h => ?_)
        refine lv_istore (lv' := [(9, .int v3), (8, .int ((4 * x7) + x2)), (0, .ref a0), (1, .int x1), (2, .int x2), (3, .int x3), (4, .int x4), (5, .int x5), (6, .int x6), (7, .int x7)]) hx hb dX1_joined_32 hl (by decide) rfl (fun ls hl => ?_)
        refine lv_iload hx hb dX1_joined_34 (lv_at hl 0 rfl) ?_
        refine lv_aload_n hx hb dX1_joined_36 rfl (lv_at hl 2 rfl) ?_
        refine mm_gfa C S (ci := 0) (k := 11) rfl in_X1 (by decide) q226 (fun _ h9 => h9) dX1_joined_37 h (fun u4 h => ?_)
        refine lv_iload hx hb dX1_joined_40 (lv_at hl 1 rfl) ?_
        refine mm_aald C S (t := 8) rfl rfl h dX1_joined_42 (fun u5 h => ?_)
        refine lv_iload_n hx hb dX1_joined_43 rfl (lv_at hl 3 rfl) ?_
        refine mm_iald C S h dX1_joined_44 (fun v6 h => ?_)
        refine mm_max C hl.1 q327 q328 q68 q329 (Nat.le_of_ble_eq_true rfl) (Nat.le_of_ble_eq_true rfl) (Nat.le_trans (Nat.le_add_right _ _) hk) (Nat.le_trans (Nat.le_add_right _ _) hk) dX1_joined_45 ?_
        refine lv_topi (fun g7 eg7 => ?_)
        have h := h g7 eg7
        refine lv_istore (lv' := [(10, .int g7), (9, .int v3), (8, .int ((4 * x7) + x2)), (0, .ref a0), (1, .int x1), (2, .int x2), (3, .int x3), (4, .int x4), (5, .int x5), (6, .int x6), (7, .int x7)]) hx hb dX1_joined_48 hl (by decide) rfl (fun ls hl => ?_)
        refine lv_iload hx hb dX1_joined_50 (lv_at hl 8 rfl) ?_
        refine lv_iconst (v := (-1)) hx hb dX1_joined_52 (by decide) ?_
        refine lv_icmp_eq (tgt := 60) hx hb dX1_joined_53 (by decide) (fun c9 => ?_) (fun c9 => ?_)
        · have h := h.1 c9
          refine lv_iconst (v := 0) hx hb dX1_joined_60 (by decide) ?_
          exact j61 _ _ _ _ _ _ _ _ _ _ _ _ _ _ _ _ _ hk S (lv_sub hl [3, 4, 5, 6, 7, 8, 9, 10, 1, 0] rfl) h
        · have h := h.2 c9
          refine lv_iconst (v := 1) hx hb dX1_joined_56 (by decide) ?_
          refine lv_goto (tgt := 61) hx hb dX1_joined_57 (by decide) ?_
          exact j61 _ _ _ _ _ _ _ _ _ _ _ _ _ _ _ _ _ hk S (lv_sub hl [3, 4, 5, 6, 7, 8, 9, 10, 1, 0] rfl) h
  unfold wp_X1_joined at h
  refine lv_iconst (v := (-1)) hx hb dX1_joined_0 (by decide) ?_
  refine lv_istore (lv' := [(5, .int (-1)), (0, .ref a0), (1, .int x1), (2, .int x2), (3, .int x3), (4, .int x4)]) hx hb dX1_joined_1 hl (by decide) rfl (fun ls hl => ?_)
  refine lv_iconst (v := (-1)) hx hb dX1_joined_3 (by decide) ?_
  refine lv_istore (lv' := [(6, .int (-1)), (5, .int (-1)), (0, .ref a0), (1, .int x1), (2, .int x2), (3, .int x3), (4, .int x4)]) hx hb dX1_joined_4 hl (by decide) rfl (fun ls hl => ?_)
  refine lv_iconst (v := 0) hx hb dX1_joined_6 (by decide) ?_
  refine lv_istore (lv' := [(7, .int 0), (6, .int (-1)), (5, .int (-1)), (0, .ref a0), (1, .int x1), (2, .int x2), (3, .int x3), (4, .int x4)]) hx hb dX1_joined_7 hl (by decide) rfl (fun ls hl => ?_)
  obtain ⟨nf, h⟩ := h
  exact j9 nf _ _ _ _ _ _ _ _ _ _ _ _ _ _ hk S (lv_sub hl [3, 4, 5, 6, 7, 2, 1, 0] rfl) h
/-! X1_numbers: level 12, alloc, throws java/lang/IllegalArgumentException,java/lang/IndexOutOfBoundsException -/
def wp_X1_numbers (G : mG) (b : Nat) (P : Int32 → mM → Prop) (X : String → Nat → mM → Prop) (M : mM) (a0 : Nat) (x1 : Int32) (x2 : Int32) (x3 : Int32) (x4 : Int32) : Prop :=
  ∃ b2 r3 : Nat, b2 + r3 = b ∧ wp_X1_checkIndex G b2 (fun M1 => ∃ b5 r6 : Nat, b5 + r6 = r3 ∧ wp_X1_checkIndex G b5 (fun M4 => gfi M4 a0 0 17 fun v7 => ∃ b9 r10 : Nat, b9 + r10 = r6 ∧ wp_X1_checkRange G b9 (fun M8 => isc M8 a0 0 ∧ (wp_X1_joined G 0 (fun v12 M11 => P v12 M11) M8 a0 x1 x2 x3 x4)) X M4 x3 0 v7) X M1 x2 4) X M x1 36
set_option maxHeartbeats 4000000 in
set_option maxRecDepth 100000 in
theorem wk_X1_numbers {l : Launch} (hst0 : l.stackTraces = false) {G : mG} {b : Nat} {P : Int32 → mM → Prop} {X : String → Nat → mM → Prop} {M : mM} {a0 : Nat} {x1 : Int32} {x2 : Int32} {x3 : Int32} {x4 : Int32} (h : wp_X1_numbers G b P X M a0 x1 x2 x3 x4) : mMet l yX1_numbers (ws_ yX1_numbers cX1_numbers 5 (Option.some Jvm.ClassFile.FieldType.int)) 12 b G [.ref a0, .int x1, .int x2, .int x3, .int x4] M (mRi P) X := by
  refine mm_met hst0 (by decide) (Nat.le_of_ble_eq_true rfl) ?_
  intro p e s m args below meth c ls C hr hnt hnm hl S
  have hl : lv_has ls 5 [(0, .ref a0), (1, .int x1), (2, .int x2), (3, .int x3), (4, .int x4)] := hl
  generalize mA M s.heap.size = A at C S ⊢
  have hx := C.hx
  have hb := C.hb
  have hk : 0 + b ≤ b := Nat.le_of_eq (Nat.zero_add b)
  unfold wp_X1_numbers at h
  refine lv_iload_n hx hb dX1_numbers_0 rfl (lv_at hl 1 rfl) ?_
  refine lv_bipush (v := 36) hx hb dX1_numbers_1 (by decide) ?_
  obtain ⟨b2, r3, hb9, h⟩ := h
  refine mm_S (As := [.int x1, .int 36]) (rest := []) C S hl.1 (wk_X1_checkIndex hst0 h) (lw_S q516 q517 q48 q518) pd_X1_checkIndex ⟨Nat.le_of_ble_eq_true rfl, Nat.le_of_ble_eq_true rfl⟩ rfl rfl (Nat.le_of_ble_eq_true rfl) dX1_numbers_3 rfl rfl hk hb9 (fun v9 M1 H locs hP S hk => ?_) (fun E q ce M9 H9 locs9 hX S9 hk9 hc9 hv9 hf9 => mm_out C S9 (fun x hx => (hnt x hx).elim) (Nat.le_trans (Nat.le_add_right _ _) hk9) hc9 hv9 hf9 hX)
  obtain ⟨rfl, h⟩ := hP
  refine W.eq (g2 := F0 m 6 ls []) rfl ?_
  refine lv_iload_n hx hb dX1_numbers_6 rfl (lv_at hl 2 rfl) ?_
  refine lv_iconst (v := 4) hx hb dX1_numbers_7 (by decide) ?_
  obtain ⟨b5, r6, hb9, h⟩ := h
  refine mm_S (As := [.int x2, .int 4]) (rest := []) C S hl.1 (wk_X1_checkIndex hst0 h) (lw_S q516 q517 q48 q518) pd_X1_checkIndex ⟨Nat.le_of_ble_eq_true rfl, Nat.le_of_ble_eq_true rfl⟩ rfl rfl (Nat.le_of_ble_eq_true rfl) dX1_numbers_8 rfl rfl hk hb9 (fun v9 M4 H locs hP S hk => ?_) (fun E q ce M9 H9 locs9 hX S9 hk9 hc9 hv9 hf9 => mm_out C S9 (fun x hx => (hnt x hx).elim) (Nat.le_trans (Nat.le_add_right _ _) hk9) hc9 hv9 hf9 hX)
  obtain ⟨rfl, h⟩ := hP
  refine W.eq (g2 := F0 m 11 ls []) rfl ?_
  refine lv_iload_n hx hb dX1_numbers_11 rfl (lv_at hl 3 rfl) ?_
  refine lv_iconst (v := 0) hx hb dX1_numbers_12 (by decide) ?_
  refine lv_aload_n hx hb dX1_numbers_13 rfl (lv_at hl 0 rfl) ?_
  refine mm_gfi C S (ci := 0) (k := 17) rfl in_X1 (by decide) q232 (fun _ h9 => h9) dX1_numbers_14 h (fun v7 h => ?_)
  obtain ⟨b9, r10, hb9, h⟩ := h
  refine mm_S (As := [.int x3, .int 0, .int v7]) (rest := []) C S hl.1 (wk_X1_checkRange hst0 h) (lw_S q540 q541 q48 q542) pd_X1_checkRange ⟨Nat.le_of_ble_eq_true rfl, Nat.le_of_ble_eq_true rfl⟩ rfl rfl (Nat.le_of_ble_eq_true rfl) dX1_numbers_17 rfl rfl hk hb9 (fun v9 M8 H locs hP S hk => ?_) (fun E q ce M9 H9 locs9 hX S9 hk9 hc9 hv9 hf9 => mm_out C S9 (fun x hx => (hnt x hx).elim) (Nat.le_trans (Nat.le_add_right _ _) hk9) hc9 hv9 hf9 hX)
  obtain ⟨rfl, h⟩ := hP
  refine W.eq (g2 := F0 m 20 ls []) rfl ?_
  refine lv_aload_n hx hb dX1_numbers_20 rfl (lv_at hl 0 rfl) ?_
  refine lv_iload_n hx hb dX1_numbers_21 rfl (lv_at hl 1 rfl) ?_
  refine lv_iload_n hx hb dX1_numbers_22 rfl (lv_at hl 2 rfl) ?_
  refine lv_iload_n hx hb dX1_numbers_23 rfl (lv_at hl 3 rfl) ?_
  refine lv_iload hx hb dX1_numbers_24 (lv_at hl 4 rfl) ?_
  obtain ⟨hI, h⟩ := h
  refine mm_V (As := [.int x1, .int x2, .int x3, .int x4]) (rest := []) C S hl.1 (wk_X1_joined hst0 h) (T := TX1) rfl hI (lw_V q337 q339 qs2 q48 q340) rfl pd_X1_joined ⟨Nat.le_of_ble_eq_true rfl, Nat.le_of_ble_eq_true rfl⟩ rfl rfl (Nat.le_of_ble_eq_true rfl) dX1_numbers_26 rfl rfl hk (Nat.zero_add _) (fun v9 M11 H locs hP S hk => ?_) (fun E q ce M9 H9 locs9 hX => hX.elim)
  obtain ⟨v12, rfl, h⟩ := hP
  refine W.eq (g2 := F0 m 29 ls [.int v12]) rfl ?_
  exact mm_iret C S hr (Nat.le_trans (Nat.le_add_right _ _) hk) dX1_numbers_29 h
/-! X0_numbers: level 13, alloc -/
def wb_X0_numbers_17 (G : mG) (P : Int32 → mM → Prop) (r : Nat) (M : mM) (s0 : Nat) : Prop :=
  P 1 M
def wb_X0_numbers_21 (G : mG) (P : Int32 → mM → Prop) (r : Nat) (M : mM) (s0 : Nat) : Prop :=
  P 2 M
def wp_X0_numbers (G : mG) (b : Nat) (P : Int32 → mM → Prop) (M : mM) (a0 : Nat) (x1 : Int32) (x2 : Int32) (x3 : Int32) (x4 : Int32) (a5 : Nat) : Prop :=
  isc M a0 0 ∧ (∃ b2 r3 : Nat, b2 + r3 = b ∧ wp_X1_numbers G b2 (fun v4 M1 => stl M1 4 a5 0 v4.toInt64 fun M5 => P 0 M5) (fun E9 u6 M7 => (E9 = "java/lang/IllegalArgumentException" ∧ wb_X0_numbers_21 G P r3 M7 u6) ∨ (E9 = "java/lang/IndexOutOfBoundsException" ∧ wb_X0_numbers_17 G P r3 M7 u6)) M a0 x1 x2 x3 x4)
set_option maxHeartbeats 4000000 in
set_option maxRecDepth 100000 in
theorem wk_X0_numbers {l : Launch} (hst0 : l.stackTraces = false) {G : mG} {b : Nat} {P : Int32 → mM → Prop} {M : mM} {a0 : Nat} {x1 : Int32} {x2 : Int32} {x3 : Int32} {x4 : Int32} {a5 : Nat} (h : wp_X0_numbers G b P M a0 x1 x2 x3 x4 a5) : mMet l yX0_numbers (wsW_ yX0_numbers cX0_numbers 7 (Option.some Jvm.ClassFile.FieldType.int) [((0 : Nat), (14 : Nat), (17 : Nat), (13 : Nat)), ((0 : Nat), (14 : Nat), (21 : Nat), (15 : Nat))]) 13 b G [.ref a0, .int x1, .int x2, .int x3, .int x4, .ref a5] M (mRi P) (fun _ _ _ => False) := by
  refine mm_metW hst0 (by decide) (Nat.le_of_ble_eq_true rfl) ?_
  intro p e s m args below meth c ls C hr htab hnm hl S
  have hl : lv_has ls 7 [(0, .ref a0), (1, .int x1), (2, .int x2), (3, .int x3), (4, .int x4), (5, .ref a5)] := hl
  generalize mA M s.heap.size = A at C S ⊢
  have hx := C.hx
  have hb := C.hb
  have hk : 0 + b ≤ b := Nat.le_of_eq (Nat.zero_add b)
  have j17 : ∀ (k r : Nat) (M : mM) (H : Heap) (locs : List Loc) (ls : Array Slot) (s0 : Nat), k + r ≤ b → mW G A s M H locs → lv_has ls 7 [] → wb_X0_numbers_17 G P r M s0 → W p l e (mRm 13 b) s m args below meth c H locs k k (vx_MQ below (mQ G A (mRi P)) (mXC G A (fun _ _ _ => False)) args s b b A) (F0 m 17 ls [.ref s0]) := by
    intro k r M H locs ls s0 hk S hl h
    unfold wb_X0_numbers_17 at h
    refine lv_astore (lv' := [(6, .ref s0)]) hx hb dX0_numbers_17 hl (by decide) rfl (fun ls hl => ?_)
    refine lv_iconst (v := 1) hx hb dX0_numbers_19 (by decide) ?_
    exact mm_iret C S hr (Nat.le_trans (Nat.le_add_right _ _) hk) dX0_numbers_20 h
  have j21 : ∀ (k r : Nat) (M : mM) (H : Heap) (locs : List Loc) (ls : Array Slot) (s0 : Nat), k + r ≤ b → mW G A s M H locs → lv_has ls 7 [] → wb_X0_numbers_21 G P r M s0 → W p l e (mRm 13 b) s m args below meth c H locs k k (vx_MQ below (mQ G A (mRi P)) (mXC G A (fun _ _ _ => False)) args s b b A) (F0 m 21 ls [.ref s0]) := by
    intro k r M H locs ls s0 hk S hl h
    unfold wb_X0_numbers_21 at h
    refine lv_astore (lv' := [(6, .ref s0)]) hx hb dX0_numbers_21 hl (by decide) rfl (fun ls hl => ?_)
    refine lv_iconst (v := 2) hx hb dX0_numbers_23 (by decide) ?_
    exact mm_iret C S hr (Nat.le_trans (Nat.le_add_right _ _) hk) dX0_numbers_24 h
  unfold wp_X0_numbers at h
  refine lv_aload hx hb dX0_numbers_0 (lv_at hl 5 rfl) ?_
  refine lv_iconst (v := 0) hx hb dX0_numbers_2 (by decide) ?_
  refine lv_aload_n hx hb dX0_numbers_3 rfl (lv_at hl 0 rfl) ?_
  refine lv_iload_n hx hb dX0_numbers_4 rfl (lv_at hl 1 rfl) ?_
  refine lv_iload_n hx hb dX0_numbers_5 rfl (lv_at hl 2 rfl) ?_
  refine lv_iload_n hx hb dX0_numbers_6 rfl (lv_at hl 3 rfl) ?_
  refine lv_iload hx hb dX0_numbers_7 (lv_at hl 4 rfl) ?_
  obtain ⟨hI, h⟩ := h
  obtain ⟨b2, r3, hb9, h⟩ := h
  refine mm_V (As := [.int x1, .int x2, .int x3, .int x4]) (rest := [.int 0, .ref a5]) C S hl.1 (wk_X1_numbers hst0 h) (T := TX1) rfl hI (lw_V q1641 q1642 q1643 q48 q1644) rfl pd_X1_numbers ⟨Nat.le_of_ble_eq_true rfl, Nat.le_of_ble_eq_true rfl⟩ rfl rfl (Nat.le_of_ble_eq_true rfl) dX0_numbers_9 rfl rfl hk hb9 (fun v9 M1 H locs hP S hk => ?_) (fun E u6 ce M7 H locs hX S hk hc9 hv9 hf9 => ?_)
  · obtain ⟨v4, rfl, h⟩ := hP
    refine W.eq (g2 := F0 m 12 ls [.int v4, .int 0, .ref a5]) rfl ?_
    refine lv_i2l hx hb dX0_numbers_12 rfl ?_
    refine mm_last C S h dX0_numbers_13 (fun M5 H locs h S => ?_)
    refine lv_goto (tgt := 25) hx hb dX0_numbers_14 (by decide) ?_
    refine lv_iconst (v := 0) hx hb dX0_numbers_25 (by decide) ?_
    exact mm_iret C S hr (Nat.le_trans (Nat.le_add_right _ _) hk) dX0_numbers_26 h
  · rcases hX with ⟨rfl, h⟩ | ⟨rfl, h⟩
    · refine vx_catch (pc := 9) (name := "java/lang/IllegalArgumentException") C.hown [(⟨0, 14, 17, 13⟩ : ExceptionTableEntry)] (⟨0, 14, 21, 15⟩ : ExceptionTableEntry) [] htab (mm_pass1 C (nm := "java/lang/IndexOutOfBoundsException") (by decide) q431 (by decide) mm_pass0) (by decide) (by decide) (C.ts _ q511) (va_Nw.use rfl (C.nw q548 rfl)) hc9 hv9 hf9 ?_
      exact j21 _ _ _ _ _ _ _ hk S (lv_sub hl [] rfl) h
    · refine vx_catch (pc := 9) (name := "java/lang/IndexOutOfBoundsException") C.hown [] (⟨0, 14, 17, 13⟩ : ExceptionTableEntry) [(⟨0, 14, 21, 15⟩ : ExceptionTableEntry)] htab mm_pass0 (by decide) (by decide) (C.ts _ q431) (va_Nw.use rfl (C.nw q521 rfl)) hc9 hv9 hf9 ?_
      exact j17 _ _ _ _ _ _ _ hk S (lv_sub hl [] rfl) h
/-! X1_flow: level 10 -/
def wb_X1_flow_96 (G : mG) (P : mM → Prop) (r : Nat) (M : mM) : Prop :=
  P M
def wb_X1_flow_62 (G : mG) (P : mM → Prop) (r : Nat) (M : mM) (a0 : Nat) (a1 : Nat) : Prop :=
  gfa M a0 0 2 fun u13 => gfi M a1 4 0 fun v14 => ldi M 0 u13 v14 fun v15 => sti M 0 u13 v14 (v15 - 1) fun M16 => gfi M16 a1 4 1 fun v17 => (v17 = (-1) → wb_X1_flow_96 G P r M16) ∧ (¬ v17 = (-1) → gfa M16 a0 0 2 fun u18 => gfi M16 a1 4 1 fun v19 => ldi M16 0 u18 v19 fun v20 => sti M16 0 u18 v19 (v20 + 1) fun M21 => wb_X1_flow_96 G P r M21)
def wb_X1_flow_28 (G : mG) (P : mM → Prop) (r : Nat) (M : mM) (a0 : Nat) (a1 : Nat) (s0 : Int32) : Prop :=
  (s0 = 0 → wb_X1_flow_96 G P r M) ∧ (¬ s0 = 0 → gfi M a1 4 1 fun v6 => (v6 = (-1) → wb_X1_flow_62 G P r M a0 a1) ∧ (¬ v6 = (-1) → gfa M a0 0 2 fun u7 => gfi M a1 4 0 fun v8 => ldi M 0 u7 v8 fun v9 => gfa M a0 0 2 fun u10 => gfi M a1 4 1 fun v11 => ldi M 0 u10 v11 fun v12 => (v9 ≤ v12 → wb_X1_flow_96 G P r M) ∧ (¬ v9 ≤ v12 → wb_X1_flow_62 G P r M a0 a1)))
def wb_X1_flow_27 (G : mG) (P : mM → Prop) (r : Nat) (M : mM) (a0 : Nat) (a1 : Nat) : Prop :=
  wb_X1_flow_28 G P r M a0 a1 0
def wp_X1_flow (G : mG) (b : Nat) (P : mM → Prop) (M : mM) (a0 : Nat) (a1 : Nat) : Prop :=
  gfi M a1 4 3 fun v1 => (v1 = 0 → wb_X1_flow_27 G P b M a0 a1) ∧ (¬ v1 = 0 → gfa M a0 0 2 fun u2 => gfi M a1 4 0 fun v3 => ldi M 0 u2 v3 fun v4 => gfi M a1 4 2 fun v5 => (v4 ≤ v5 → wb_X1_flow_27 G P b M a0 a1) ∧ (¬ v4 ≤ v5 → wb_X1_flow_28 G P b M a0 a1 1))
set_option maxHeartbeats 4000000 in
set_option maxRecDepth 100000 in
theorem wk_X1_flow {l : Launch} (hst0 : l.stackTraces = false) {G : mG} {b : Nat} {P : mM → Prop} {M : mM} {a0 : Nat} {a1 : Nat} (h : wp_X1_flow G b P M a0 a1) : mMet l yX1_flow (ws_ yX1_flow cX1_flow 3 (Option.none : Option Jvm.ClassFile.FieldType)) 10 b G [.ref a0, .ref a1] M (mRv P) (fun _ _ _ => False) := by
  refine mm_met hst0 (by decide) (Nat.le_of_ble_eq_true rfl) ?_
  intro p e s m args below meth c ls C hr hnt hnm hl S
  have hl : lv_has ls 3 [(0, .ref a0), (1, .ref a1)] := hl
  generalize mA M s.heap.size = A at C S ⊢
  have hx := C.hx
  have hb := C.hb
  have hk : 0 + b ≤ b := Nat.le_of_eq (Nat.zero_add b)
  have j96 : ∀ (k r : Nat) (M : mM) (H : Heap) (locs : List Loc) (ls : Array Slot), k + r ≤ b → mW G A s M H locs → lv_has ls 3 [] → wb_X1_flow_96 G P r M → W p l e (mRm 10 b) s m args below meth c H locs k k (vx_MQ below (mQ G A (mRv P)) (mXC G A (fun _ _ _ => False)) args s b b A) (F0 m 96 ls []) := by
    intro k r M H locs ls  hk S hl h
    unfold wb_X1_flow_96 at h
    exact mm_vret C S hr (Nat.le_trans (Nat.le_add_right _ _) hk) dX1_flow_96 h
  have j62 : ∀ (k r : Nat) (M : mM) (H : Heap) (locs : List Loc) (ls : Array Slot) (a0 : Nat) (a1 : Nat), k + r ≤ b → mW G A s M H locs → lv_has ls 3 [(0, .ref a0), (1, .ref a1)] → wb_X1_flow_62 G P r M a0 a1 → W p l e (mRm 10 b) s m args below meth c H locs k k (vx_MQ below (mQ G A (mRv P)) (mXC G A (fun _ _ _ => False)) args s b b A) (F0 m 62 ls []) := by
    intro k r M H locs ls a0 a1 hk S hl h
    unfold wb_X1_flow_62 at h
    refine lv_aload_n hx hb dX1_flow_62 rfl (lv_at hl 0 rfl) ?_
    refine mm_gfa C S (ci := 0) (k := 2) rfl in_X1 (by decide) q217 (fun _ h9 => h9) dX1_flow_63 h (fun u13 h => ?_)
    refine lv_aload_n hx hb dX1_flow_66 rfl (lv_at hl 1 rfl) ?_
    refine mm_gfiN C S (ci := 4) (k := 0) rfl in_X5 (by decide) q631 (fun _ h9 => h9) dX1_flow_67 h (fun v14 h => ?_)
    refine lv_dup2_11 hx hb dX1_flow_70 rfl rfl ?_
    refine mm_iald C S h dX1_flow_71 (fun v15 h => ?_)
    refine lv_iconst (v := 1) hx hb dX1_flow_72 (by decide) ?_
    refine lv_isub hx hb dX1_flow_73 ?_
    refine mm_iast C S h dX1_flow_74 (fun M16 H locs h S => ?_)
    refine lv_aload_n hx hb dX1_flow_75 rfl (lv_at hl 1 rfl) ?_
    refine mm_gfiN C S (ci := 4) (k := 1) rfl in_X5 (by decide) q633 (fun _ h9 => h9) dX1_flow_76 h (fun v17 h => ?_)
    refine lv_iconst (v := (-1)) hx hb dX1_flow_79 (by decide) ?_
    refine lv_icmp_eq (tgt := 96) hx hb dX1_flow_80 (by decide) (fun c9 => ?_) (fun c9 => ?_)
    · have h := h.1 c9
      exact j96 _ _ _ _ _ _ hk S (lv_sub hl [] rfl) h
    · have h := h.2 c9
      refine lv_aload_n hx hb dX1_flow_83 rfl (lv_at hl 0 rfl) ?_
      refine mm_gfa C S (ci := 0) (k := 2) rfl in_X1 (by decide) q217 (fun _ h9 => h9) dX1_flow_84 h (fun u18 h => ?_)
      refine lv_aload_n hx hb dX1_flow_87 rfl (lv_at hl 1 rfl) ?_
      refine mm_gfiN C S (ci := 4) (k := 1) rfl in_X5 (by decide) q633 (fun _ h9 => h9) dX1_flow_88 h (fun v19 h => ?_)
      refine lv_dup2_11 hx hb dX1_flow_91 rfl rfl ?_
      refine mm_iald C S h dX1_flow_92 (fun v20 h => ?_)
      refine lv_iconst (v := 1) hx hb dX1_flow_93 (by decide) ?_
      refine lv_iadd hx hb dX1_flow_94 ?_
      refine mm_iast C S h dX1_flow_95 (fun M21 H locs h S => ?_)
      exact j96 _ _ _ _ _ _ hk S (lv_sub hl [] rfl) h
  have j28 : ∀ (k r : Nat) (M : mM) (H : Heap) (locs : List Loc) (ls : Array Slot) (a0 : Nat) (a1 : Nat) (s0 : Int32), k + r ≤ b → mW G A s M H locs → lv_has ls 3 [(0, .ref a0), (1, .ref a1)] → wb_X1_flow_28 G P r M a0 a1 s0 → W p l e (mRm 10 b) s m args below meth c H locs k k (vx_MQ below (mQ G A (mRv P)) (mXC G A (fun _ _ _ => False)) args s b b A) (F0 m 28 ls [.int s0]) := by
    intro k r M H locs ls a0 a1 s0 hk S hl h
    unfold wb_X1_flow_28 at h
    refine lv_istore_n (lv' := [(2, .int s0), (0, .ref a0), (1, .ref a1)]) hx hb dX1_flow_28 rfl hl (by decide) rfl (fun ls hl => ?_)
    refine lv_iload_n hx hb dX1_flow_29 rfl (lv_at hl 0 rfl) ?_
    refine lv_if_eq (tgt := 96) hx hb dX1_flow_30 (by decide) (fun c9 => ?_) (fun c9 => ?_)
    · have h := h.1 c9
      exact j96 _ _ _ _ _ _ hk S (lv_sub hl [] rfl) h
    · have h := h.2 c9
      refine lv_aload_n hx hb dX1_flow_33 rfl (lv_at hl 2 rfl) ?_
      refine mm_gfiN C S (ci := 4) (k := 1) rfl in_X5 (by decide) q633 (fun _ h9 => h9) dX1_flow_34 h (fun v6 h => ?_)
      refine lv_iconst (v := (-1)) hx hb dX1_flow_37 (by decide) ?_
      refine lv_icmp_eq (tgt := 62) hx hb dX1_flow_38 (by decide) (fun c9 => ?_) (fun c9 => ?_)
      · have h := h.1 c9
        exact j62 _ _ _ _ _ _ _ _ hk S (lv_sub hl [1, 2] rfl) h
      · have h := h.2 c9
        refine lv_aload_n hx hb dX1_flow_41 rfl (lv_at hl 1 rfl) ?_
        refine mm_gfa C S (ci := 0) (k := 2) rfl in_X1 (by decide) q217 (fun _ h9 => h9) dX1_flow_42 h (fun u7 h => ?_)
        refine lv_aload_n hx hb dX1_flow_45 rfl (lv_at hl 2 rfl) ?_
        refine mm_gfiN C S (ci := 4) (k := 0) rfl in_X5 (by decide) q631 (fun _ h9 => h9) dX1_flow_46 h (fun v8 h => ?_)
        refine mm_iald C S h dX1_flow_49 (fun v9 h => ?_)
        refine lv_aload_n hx hb dX1_flow_50 rfl (lv_at hl 1 rfl) ?_
        refine mm_gfa C S (ci := 0) (k := 2) rfl in_X1 (by decide) q217 (fun _ h9 => h9) dX1_flow_51 h (fun u10 h => ?_)
        refine lv_aload_n hx hb dX1_flow_54 rfl (lv_at hl 2 rfl) ?_
        refine mm_gfiN C S (ci := 4) (k := 1) rfl in_X5 (by decide) q633 (fun _ h9 => h9) dX1_flow_55 h (fun v11 h => ?_)
        refine mm_iald C S h dX1_flow_58 (fun v12 h => ?_)
        refine lv_icmp_le (tgt := 96) hx hb dX1_flow_59 (by decide) (fun c9 => ?_) (fun c9 => ?_)
        · have h := h.1 c9
          exact j96 _ _ _ _ _ _ hk S (lv_sub hl [] rfl) h
        · have h := h.2 c9
          exact j62 _ _ _ _ _ _ _ _ hk S (lv_sub hl [1, 2] rfl) h
  have j27 : ∀ (k r : Nat) (M : mM) (H : Heap) (locs : List Loc) (ls : Array Slot) (a0 : Nat) (a1 : Nat), k + r ≤ b → mW G A s M H locs → lv_has ls 3 [(0, .ref a0), (1, .ref a1)] → wb_X1_flow_27 G P r M a0 a1 → W p l e (mRm 10 b) s m args below meth c H locs k k (vx_MQ below (mQ G A (mRv P)) (mXC G A (fun _ _ _ => False)) args s b b A) (F0 m 27 ls []) := by
    intro k r M H locs ls a0 a1 hk S hl h
    unfold wb_X1_flow_27 at h
    refine lv_iconst (v := 0) hx hb dX1_flow_27 (by decide) ?_
    exact j28 _ _ _ _ _ _ _ _ _ hk S hl h
  unfold wp_X1_flow at h
  refine lv_aload_n hx hb dX1_flow_0 rfl (lv_at hl 1 rfl) ?_
  refine mm_gfiN C S (ci := 4) (k := 3) rfl in_X5 (by decide) q637 (fun _ h9 => h9) dX1_flow_1 h (fun v1 h => ?_)
  refine lv_if_eq (tgt := 27) hx hb dX1_flow_4 (by decide) (fun c9 => ?_) (fun c9 => ?_)
  · have h := h.1 c9
    exact j27 _ _ _ _ _ _ _ _ hk S hl h
  · have h := h.2 c9
    refine lv_aload_n hx hb dX1_flow_7 rfl (lv_at hl 0 rfl) ?_
    refine mm_gfa C S (ci := 0) (k := 2) rfl in_X1 (by decide) q217 (fun _ h9 => h9) dX1_flow_8 h (fun u2 h => ?_)
    refine lv_aload_n hx hb dX1_flow_11 rfl (lv_at hl 1 rfl) ?_
    refine mm_gfiN C S (ci := 4) (k := 0) rfl in_X5 (by decide) q631 (fun _ h9 => h9) dX1_flow_12 h (fun v3 h => ?_)
    refine mm_iald C S h dX1_flow_15 (fun v4 h => ?_)
    refine lv_aload_n hx hb dX1_flow_16 rfl (lv_at hl 1 rfl) ?_
    refine mm_gfiN C S (ci := 4) (k := 2) rfl in_X5 (by decide) q635 (fun _ h9 => h9) dX1_flow_17 h (fun v5 h => ?_)
    refine lv_icmp_le (tgt := 27) hx hb dX1_flow_20 (by decide) (fun c9 => ?_) (fun c9 => ?_)
    · have h := h.1 c9
      exact j27 _ _ _ _ _ _ _ _ hk S hl h
    · have h := h.2 c9
      refine lv_iconst (v := 1) hx hb dX1_flow_23 (by decide) ?_
      refine lv_goto (tgt := 28) hx hb dX1_flow_24 (by decide) ?_
      exact j28 _ _ _ _ _ _ _ _ _ hk S hl h
/-! X2_endDay: level 10 -/
def wb_X2_endDay_127 (G : mG) (P : mM → Prop) (r : Nat) (M : mM) : Prop :=
  P M
def wb_X2_endDay_105 (G : mG) (P : mM → Prop) (r : Nat) (M : mM) (a0 : Nat) : Prop :=
  gfi M a0 1 3 fun v12 => (¬ v12 = 2 → wb_X2_endDay_127 G P r M) ∧ (v12 = 2 → gfi M a0 1 4 fun v13 => (v13 < 10 → wb_X2_endDay_127 G P r M) ∧ (¬ v13 < 10 → pfi M a0 1 1 0 fun M14 => wb_X2_endDay_127 G P r M14))
def wb_X2_endDay_83 (G : mG) (P : mM → Prop) (r : Nat) (M : mM) (a0 : Nat) : Prop :=
  gfi M a0 1 3 fun v9 => (¬ v9 = 1 → wb_X2_endDay_105 G P r M a0) ∧ (v9 = 1 → gfi M a0 1 4 fun v10 => (v10 < 10 → wb_X2_endDay_105 G P r M a0) ∧ (¬ v10 < 10 → pfi M a0 1 1 1 fun M11 => wb_X2_endDay_105 G P r M11 a0))
def wb_X2_endDay_54 (G : mG) (P : mM → Prop) (r : Nat) (M : mM) (a0 : Nat) (x2 : Int32) (s0 : Nat) (s1 : Int32) : Prop :=
  pfn M s0 1 4 .short s1 fun M4 => pfi M4 a0 1 3 x2 fun M5 => gfi M5 a0 1 3 fun v6 => (¬ v6 = 0 → wb_X2_endDay_83 G P r M5 a0) ∧ (v6 = 0 → gfi M5 a0 1 4 fun v7 => (v7 < 20 → wb_X2_endDay_83 G P r M5 a0) ∧ (¬ v7 < 20 → pfi M5 a0 1 1 2 fun M8 => wb_X2_endDay_83 G P r M8 a0))
def wb_X2_endDay_27 (G : mG) (P : mM → Prop) (r : Nat) (M : mM) (a0 : Nat) (s0 : Int32) : Prop :=
  gfi M a0 1 3 fun v1 => (¬ s0 = v1 → wb_X2_endDay_54 G P r M a0 s0 a0 1) ∧ (s0 = v1 → gfi M a0 1 4 fun v2 => ∀ g3 : Int32, g3 = (if 1000 < (v2 + 1) then 1000 else (v2 + 1)) → wb_X2_endDay_54 G P r M a0 s0 a0 g3.toInt16.toInt32)
def wp_X2_endDay (G : mG) (b : Nat) (P : mM → Prop) (M : mM) (a0 : Nat) (x1 : Int32) : Prop :=
  (0 ≤ x1 → (1 < x1 → (x1 < 3 → wb_X2_endDay_27 G P b M a0 3) ∧ (¬ x1 < 3 → wb_X2_endDay_27 G P b M a0 2)) ∧ (¬ 1 < x1 → wb_X2_endDay_27 G P b M a0 1)) ∧ (¬ 0 ≤ x1 → wb_X2_endDay_27 G P b M a0 0)
set_option maxHeartbeats 4000000 in
set_option maxRecDepth 100000 in
theorem wk_X2_endDay {l : Launch} (hst0 : l.stackTraces = false) {G : mG} {b : Nat} {P : mM → Prop} {M : mM} {a0 : Nat} {x1 : Int32} (h : wp_X2_endDay G b P M a0 x1) : mMet l yX2_endDay (ws_ yX2_endDay cX2_endDay 3 (Option.none : Option Jvm.ClassFile.FieldType)) 10 b G [.ref a0, .int x1] M (mRv P) (fun _ _ _ => False) := by
  refine mm_met hst0 (by decide) (Nat.le_of_ble_eq_true rfl) ?_
  intro p e s m args below meth c ls C hr hnt hnm hl S
  have hl : lv_has ls 3 [(0, .ref a0), (1, .int x1)] := hl
  generalize mA M s.heap.size = A at C S ⊢
  have hx := C.hx
  have hb := C.hb
  have hk : 0 + b ≤ b := Nat.le_of_eq (Nat.zero_add b)
  have j127 : ∀ (k r : Nat) (M : mM) (H : Heap) (locs : List Loc) (ls : Array Slot), k + r ≤ b → mW G A s M H locs → lv_has ls 3 [] → wb_X2_endDay_127 G P r M → W p l e (mRm 10 b) s m args below meth c H locs k k (vx_MQ below (mQ G A (mRv P)) (mXC G A (fun _ _ _ => False)) args s b b A) (F0 m 127 ls []) := by
    intro k r M H locs ls  hk S hl h
    unfold wb_X2_endDay_127 at h
    exact mm_vret C S hr (Nat.le_trans (Nat.le_add_right _ _) hk) dX2_endDay_127 h
  have j105 : ∀ (k r : Nat) (M : mM) (H : Heap) (locs : List Loc) (ls : Array Slot) (a0 : Nat), k + r ≤ b → mW G A s M H locs → lv_has ls 3 [(0, .ref a0)] → wb_X2_endDay_105 G P r M a0 → W p l e (mRm 10 b) s m args below meth c H locs k k (vx_MQ below (mQ G A (mRv P)) (mXC G A (fun _ _ _ => False)) args s b b A) (F0 m 105 ls []) := by
    intro k r M H locs ls a0 hk S hl h
    unfold wb_X2_endDay_105 at h
    refine lv_aload_n hx hb dX2_endDay_105 rfl (lv_at hl 0 rfl) ?_
    refine mm_gfi C S (ci := 1) (k := 3) rfl in_X2 (by decide) q185 (fun _ h9 => h9) dX2_endDay_106 h (fun v12 h => ?_)
    refine lv_iconst (v := 2) hx hb dX2_endDay_109 (by decide) ?_
    refine lv_icmp_ne (tgt := 127) hx hb dX2_endDay_110 (by decide) (fun c9 => ?_) (fun c9 => ?_)
    · have h := h.1 c9
      exact j127 _ _ _ _ _ _ hk S (lv_sub hl [] rfl) h
    · have h := h.2 c9
      refine lv_aload_n hx hb dX2_endDay_113 rfl (lv_at hl 0 rfl) ?_
      refine mm_gfi C S (ci := 1) (k := 4) rfl in_X2 (by decide) q186 (fun _ h9 => h9) dX2_endDay_114 h (fun v13 h => ?_)
      refine lv_bipush (v := 10) hx hb dX2_endDay_117 (by decide) ?_
      refine lv_icmp_lt (tgt := 127) hx hb dX2_endDay_119 (by decide) (fun c9 => ?_) (fun c9 => ?_)
      · have h := h.1 c9
        exact j127 _ _ _ _ _ _ hk S (lv_sub hl [] rfl) h
      · have h := h.2 c9
        refine lv_aload_n hx hb dX2_endDay_122 rfl (lv_at hl 0 rfl) ?_
        refine lv_iconst (v := 0) hx hb dX2_endDay_123 (by decide) ?_
        refine mm_pfi C S (ci := 1) (k := 1) rfl in_X2 tyX2_ok nmX2 (by decide) q181 (fun _ h9 => h9) rfl dX2_endDay_124 rfl h (fun M14 H locs h S => ?_)
        exact j127 _ _ _ _ _ _ hk S (lv_sub hl [] rfl) h
  have j83 : ∀ (k r : Nat) (M : mM) (H : Heap) (locs : List Loc) (ls : Array Slot) (a0 : Nat), k + r ≤ b → mW G A s M H locs → lv_has ls 3 [(0, .ref a0)] → wb_X2_endDay_83 G P r M a0 → W p l e (mRm 10 b) s m args below meth c H locs k k (vx_MQ below (mQ G A (mRv P)) (mXC G A (fun _ _ _ => False)) args s b b A) (F0 m 83 ls []) := by
    intro k r M H locs ls a0 hk S hl h
    unfold wb_X2_endDay_83 at h
    refine lv_aload_n hx hb dX2_endDay_83 rfl (lv_at hl 0 rfl) ?_
    refine mm_gfi C S (ci := 1) (k := 3) rfl in_X2 (by decide) q185 (fun _ h9 => h9) dX2_endDay_84 h (fun v9 h => ?_)
    refine lv_iconst (v := 1) hx hb dX2_endDay_87 (by decide) ?_
    refine lv_icmp_ne (tgt := 105) hx hb dX2_endDay_88 (by decide) (fun c9 => ?_) (fun c9 => ?_)
    · have h := h.1 c9
      exact j105 _ _ _ _ _ _ _ hk S hl h
    · have h := h.2 c9
      refine lv_aload_n hx hb dX2_endDay_91 rfl (lv_at hl 0 rfl) ?_
      refine mm_gfi C S (ci := 1) (k := 4) rfl in_X2 (by decide) q186 (fun _ h9 => h9) dX2_endDay_92 h (fun v10 h => ?_)
      refine lv_bipush (v := 10) hx hb dX2_endDay_95 (by decide) ?_
      refine lv_icmp_lt (tgt := 105) hx hb dX2_endDay_97 (by decide) (fun c9 => ?_) (fun c9 => ?_)
      · have h := h.1 c9
        exact j105 _ _ _ _ _ _ _ hk S hl h
      · have h := h.2 c9
        refine lv_aload_n hx hb dX2_endDay_100 rfl (lv_at hl 0 rfl) ?_
        refine lv_iconst (v := 1) hx hb dX2_endDay_101 (by decide) ?_
        refine mm_pfi C S (ci := 1) (k := 1) rfl in_X2 tyX2_ok nmX2 (by decide) q181 (fun _ h9 => h9) rfl dX2_endDay_102 rfl h (fun M11 H locs h S => ?_)
        exact j105 _ _ _ _ _ _ _ hk S hl h
  have j54 : ∀ (k r : Nat) (M : mM) (H : Heap) (locs : List Loc) (ls : Array Slot) (a0 : Nat) (x2 : Int32) (s0 : Nat) (s1 : Int32), k + r ≤ b → mW G A s M H locs → lv_has ls 3 [(0, .ref a0), (2, .int x2)] → wb_X2_endDay_54 G P r M a0 x2 s0 s1 → W p l e (mRm 10 b) s m args below meth c H locs k k (vx_MQ below (mQ G A (mRv P)) (mXC G A (fun _ _ _ => False)) args s b b A) (F0 m 54 ls [.int s1, .ref s0]) := by
    intro k r M H locs ls a0 x2 s0 s1 hk S hl h
    unfold wb_X2_endDay_54 at h
    refine mm_pfn C S (ci := 1) (k := 4) rfl in_X2 tyX2_ok nmX2 (by decide) q186 (fun _ h9 => h9) rfl dX2_endDay_54 rfl h (fun M4 H locs h S => ?_)
    refine lv_aload_n hx hb dX2_endDay_57 rfl (lv_at hl 0 rfl) ?_
    refine lv_iload_n hx hb dX2_endDay_58 rfl (lv_at hl 1 rfl) ?_
    refine mm_pfi C S (ci := 1) (k := 3) rfl in_X2 tyX2_ok nmX2 (by decide) q185 (fun _ h9 => h9) rfl dX2_endDay_59 rfl h (fun M5 H locs h S => ?_)
    refine lv_aload_n hx hb dX2_endDay_62 rfl (lv_at hl 0 rfl) ?_
    refine mm_gfi C S (ci := 1) (k := 3) rfl in_X2 (by decide) q185 (fun _ h9 => h9) dX2_endDay_63 h (fun v6 h => ?_)
    refine lv_if_ne (tgt := 83) hx hb dX2_endDay_66 (by decide) (fun c9 => ?_) (fun c9 => ?_)
    · have h := h.1 c9
      exact j83 _ _ _ _ _ _ _ hk S (lv_sub hl [0] rfl) h
    · have h := h.2 c9
      refine lv_aload_n hx hb dX2_endDay_69 rfl (lv_at hl 0 rfl) ?_
      refine mm_gfi C S (ci := 1) (k := 4) rfl in_X2 (by decide) q186 (fun _ h9 => h9) dX2_endDay_70 h (fun v7 h => ?_)
      refine lv_bipush (v := 20) hx hb dX2_endDay_73 (by decide) ?_
      refine lv_icmp_lt (tgt := 83) hx hb dX2_endDay_75 (by decide) (fun c9 => ?_) (fun c9 => ?_)
      · have h := h.1 c9
        exact j83 _ _ _ _ _ _ _ hk S (lv_sub hl [0] rfl) h
      · have h := h.2 c9
        refine lv_aload_n hx hb dX2_endDay_78 rfl (lv_at hl 0 rfl) ?_
        refine lv_iconst (v := 2) hx hb dX2_endDay_79 (by decide) ?_
        refine mm_pfi C S (ci := 1) (k := 1) rfl in_X2 tyX2_ok nmX2 (by decide) q181 (fun _ h9 => h9) rfl dX2_endDay_80 rfl h (fun M8 H locs h S => ?_)
        exact j83 _ _ _ _ _ _ _ hk S (lv_sub hl [0] rfl) h
  have j27 : ∀ (k r : Nat) (M : mM) (H : Heap) (locs : List Loc) (ls : Array Slot) (a0 : Nat) (s0 : Int32), k + r ≤ b → mW G A s M H locs → lv_has ls 3 [(0, .ref a0)] → wb_X2_endDay_27 G P r M a0 s0 → W p l e (mRm 10 b) s m args below meth c H locs k k (vx_MQ below (mQ G A (mRv P)) (mXC G A (fun _ _ _ => False)) args s b b A) (F0 m 27 ls [.int s0]) := by
    intro k r M H locs ls a0 s0 hk S hl h
    unfold wb_X2_endDay_27 at h
    refine lv_istore_n (lv' := [(2, .int s0), (0, .ref a0)]) hx hb dX2_endDay_27 rfl hl (by decide) rfl (fun ls hl => ?_)
    refine lv_aload_n hx hb dX2_endDay_28 rfl (lv_at hl 1 rfl) ?_
    refine lv_iload_n hx hb dX2_endDay_29 rfl (lv_at hl 0 rfl) ?_
    refine lv_aload_n hx hb dX2_endDay_30 rfl (lv_at hl 1 rfl) ?_
    refine mm_gfi C S (ci := 1) (k := 3) rfl in_X2 (by decide) q185 (fun _ h9 => h9) dX2_endDay_31 h (fun v1 h => ?_)
    refine lv_icmp_ne (tgt := 53) hx hb dX2_endDay_34 (by decide) (fun c9 => ?_) (fun c9 => ?_)
    · have h := h.1 c9
      refine lv_iconst (v := 1) hx hb dX2_endDay_53 (by decide) ?_
      exact j54 _ _ _ _ _ _ _ _ _ _ hk S (lv_sub hl [1, 0] rfl) h
    · have h := h.2 c9
      refine lv_aload_n hx hb dX2_endDay_37 rfl (lv_at hl 1 rfl) ?_
      refine mm_gfi C S (ci := 1) (k := 4) rfl in_X2 (by decide) q186 (fun _ h9 => h9) dX2_endDay_38 h (fun v2 h => ?_)
      refine lv_iconst (v := 1) hx hb dX2_endDay_41 (by decide) ?_
      refine lv_iadd hx hb dX2_endDay_42 ?_
      refine lv_sipush (v := 1000) hx hb dX2_endDay_43 (by decide) ?_
      refine mm_min C hl.1 q750 q331 q68 q332 (Nat.le_of_ble_eq_true rfl) (Nat.le_of_ble_eq_true rfl) (Nat.le_trans (Nat.le_add_right _ _) hk) (Nat.le_trans (Nat.le_add_right _ _) hk) dX2_endDay_46 ?_
      refine lv_topi (fun g3 eg3 => ?_)
      have h := h g3 eg3
      refine lv_i2s hx hb dX2_endDay_49 rfl ?_
      refine lv_goto (tgt := 54) hx hb dX2_endDay_50 (by decide) ?_
      exact j54 _ _ _ _ _ _ _ _ _ _ hk S (lv_sub hl [1, 0] rfl) h
  unfold wp_X2_endDay at h
  refine lv_iload_n hx hb dX2_endDay_0 rfl (lv_at hl 1 rfl) ?_
  refine lv_if_ge (tgt := 8) hx hb dX2_endDay_1 (by decide) (fun c9 => ?_) (fun c9 => ?_)
  · have h := h.1 c9
    refine lv_iload_n hx hb dX2_endDay_8 rfl (lv_at hl 1 rfl) ?_
    refine lv_iconst (v := 1) hx hb dX2_endDay_9 (by decide) ?_
    refine lv_icmp_gt (tgt := 17) hx hb dX2_endDay_10 (by decide) (fun c9 => ?_) (fun c9 => ?_)
    · have h := h.1 c9
      refine lv_iload_n hx hb dX2_endDay_17 rfl (lv_at hl 1 rfl) ?_
      refine lv_iconst (v := 3) hx hb dX2_endDay_18 (by decide) ?_
      refine lv_icmp_lt (tgt := 26) hx hb dX2_endDay_19 (by decide) (fun c9 => ?_) (fun c9 => ?_)
      · have h := h.1 c9
        refine lv_iconst (v := 3) hx hb dX2_endDay_26 (by decide) ?_
        exact j27 _ _ _ _ _ _ _ _ hk S (lv_sub hl [0] rfl) h
      · have h := h.2 c9
        refine lv_iconst (v := 2) hx hb dX2_endDay_22 (by decide) ?_
        refine lv_goto (tgt := 27) hx hb dX2_endDay_23 (by decide) ?_
        exact j27 _ _ _ _ _ _ _ _ hk S (lv_sub hl [0] rfl) h
    · have h := h.2 c9
      refine lv_iconst (v := 1) hx hb dX2_endDay_13 (by decide) ?_
      refine lv_goto (tgt := 27) hx hb dX2_endDay_14 (by decide) ?_
      exact j27 _ _ _ _ _ _ _ _ hk S (lv_sub hl [0] rfl) h
  · have h := h.2 c9
    refine lv_iconst (v := 0) hx hb dX2_endDay_4 (by decide) ?_
    refine lv_goto (tgt := 27) hx hb dX2_endDay_5 (by decide) ?_
    exact j27 _ _ _ _ _ _ _ _ hk S (lv_sub hl [0] rfl) h
/-! X1_endDay: level 13 -/
def wb_X1_endDay_119 (G : mG) (P : mM → Prop) (K81 : Nat → mM → Nat → Int32 → Prop) (r : Nat) (M : mM) (a0 : Nat) (x1 : Int32) : Prop :=
  K81 r M a0 (x1 + 1)
def wl_X1_endDay_81 (G : mG) (P : mM → Prop) : Nat → Nat → mM → Nat → Int32 → Prop
  | 0, _, _, _, _ => False
  | n + 1, r, M, a0, x1 => (36 ≤ x1 → P M) ∧ (¬ 36 ≤ x1 → gfa M a0 0 0 fun u16 => lda M 6 u16 x1 fun u17 => gfi M u17 1 2 fun v18 => (v18 = (-1) → wb_X1_endDay_119 G P (wl_X1_endDay_81 G P n) r M a0 x1) ∧ (¬ v18 = (-1) → gfa M a0 0 0 fun u19 => lda M 6 u19 x1 fun u20 => gfa M a0 0 0 fun u21 => lda M 6 u21 x1 fun u22 => isc M a0 0 ∧ (wp_X1_depthOf G 0 (fun v24 M23 => isc M23 u20 1 ∧ (wp_X2_endDay G 0 (fun M25 => wb_X1_endDay_119 G P (wl_X1_endDay_81 G P n) r M25 a0 x1) M23 u20 v24)) M a0 u22)))
def wl_X1_endDay_43 (G : mG) (P : mM → Prop) : Nat → Nat → mM → Nat → Int32 → Prop
  | 0, _, _, _, _ => False
  | n + 1, r, M, a0, x1 => gfa M a0 0 4 fun u9 => isc M u9 16 ∧ (wp_J2_size G 0 (fun v11 M10 => (v11 ≤ x1 → ∃ n81, wl_X1_endDay_81 G P n81 r M10 a0 0) ∧ (¬ v11 ≤ x1 → gfa M10 a0 0 4 fun u12 => isc M10 u12 16 ∧ (wp_J2_get G 0 (fun u14 M13 => isc M13 u14 4 ∧ (isc M13 a0 0 ∧ (wp_X1_flow G 0 (fun M15 => (wl_X1_endDay_43 G P n) r M15 a0 (x1 + 1)) M13 a0 u14))) M10 u12 x1))) M u9)
def wl_X1_endDay_2 (G : mG) (P : mM → Prop) : Nat → Nat → mM → Nat → Int32 → Prop
  | 0, _, _, _, _ => False
  | n + 1, r, M, a0, x1 => (4 ≤ x1 → ∃ n43, wl_X1_endDay_43 G P n43 r M a0 0) ∧ (¬ 4 ≤ x1 → gfa M a0 0 2 fun u1 => gfa M a0 0 2 fun u2 => ldi M 0 u2 x1 fun v3 => gfa M a0 0 3 fun u4 => ldi M 0 u4 x1 fun v5 => ∀ g6 : Int32, g6 = (if (v3 + v5) < (9 : Int32) then (v3 + v5) else (9 : Int32)) → ∀ g7 : Int32, g7 = (if (0 : Int32) < g6 then g6 else (0 : Int32)) → sti M 0 u1 x1 g7 fun M8 => (wl_X1_endDay_2 G P n) r M8 a0 (x1 + 1))
def wp_X1_endDay (G : mG) (b : Nat) (P : mM → Prop) (M : mM) (a0 : Nat) : Prop :=
  ∃ n2, wl_X1_endDay_2 G P n2 b M a0 0
set_option maxHeartbeats 4000000 in
set_option maxRecDepth 100000 in
theorem wk_X1_endDay {l : Launch} (hst0 : l.stackTraces = false) {G : mG} {b : Nat} {P : mM → Prop} {M : mM} {a0 : Nat} (h : wp_X1_endDay G b P M a0) : mMet l yX1_endDay (ws_ yX1_endDay cX1_endDay 2 (Option.none : Option Jvm.ClassFile.FieldType)) 13 b G [.ref a0] M (mRv P) (fun _ _ _ => False) := by
  refine mm_met hst0 (by decide) (Nat.le_of_ble_eq_true rfl) ?_
  intro p e s m args below meth c ls C hr hnt hnm hl S
  have hl : lv_has ls 2 [(0, .ref a0)] := hl
  generalize mA M s.heap.size = A at C S ⊢
  have hx := C.hx
  have hb := C.hb
  have hk : 0 + b ≤ b := Nat.le_of_eq (Nat.zero_add b)
  have j81 : ∀ (nf : Nat) (k r : Nat) (M : mM) (H : Heap) (locs : List Loc) (ls : Array Slot) (a0 : Nat) (x1 : Int32), k + r ≤ b → mW G A s M H locs → lv_has ls 2 [(0, .ref a0), (1, .int x1)] → wl_X1_endDay_81 G P nf r M a0 x1 → W p l e (mRm 13 b) s m args below meth c H locs k k (vx_MQ below (mQ G A (mRv P)) (mXC G A (fun _ _ _ => False)) args s b b A) (F0 m 81 ls []) := by
    intro nf
    induction nf with
    | zero =>
      intro k r M H locs ls a0 x1 hk S hl h
      rw [wl_X1_endDay_81] at h
      exact h.elim
    | succ n81 ih81 =>
      have j119 : ∀ (k r : Nat) (M : mM) (H : Heap) (locs : List Loc) (ls : Array Slot) (a0 : Nat) (x1 : Int32), k + r ≤ b → mW G A s M H locs → lv_has ls 2 [(0, .ref a0), (1, .int x1)] → wb_X1_endDay_119 G P (wl_X1_endDay_81 G P n81) r M a0 x1 → W p l e (mRm 13 b) s m args below meth c H locs k k (vx_MQ below (mQ G A (mRv P)) (mXC G A (fun _ _ _ => False)) args s b b A) (F0 m 119 ls []) := by
        intro k r M H locs ls a0 x1 hk S hl h
        unfold wb_X1_endDay_119 at h
        refine lv_iinc (v := (x1 + 1)) (lv' := [(1, .int (x1 + 1)), (0, .ref a0)]) hx hb dX1_endDay_119 hl (k := 1) rfl rfl (by decide) rfl (fun ls hl => ?_)
        refine lv_goto (tgt := 81) hx hb dX1_endDay_122 (by decide) ?_
        exact ih81 _ _ _ _ _ _ _ _ hk S (lv_sub hl [1, 0] rfl) h
      intro k r M H locs ls a0 x1 hk S hl h
      rw [wl_X1_endDay_81] at h
      refine lv_iload_n hx hb dX1_endDay_81 rfl (lv_at hl 1 rfl) ?_
      refine lv_bipush (v := 36) hx hb dX1_endDay_82 (by decide) ?_
      refine lv_icmp_ge (tgt := 125) hx hb dX1_endDay_84 (by decide) (fun c9 => ?_) (fun c9 => ?_)
      · have h := h.1 c9
        exact mm_vret C S hr (Nat.le_trans (Nat.le_add_right _ _) hk) dX1_endDay_125 h
      · have h := h.2 c9
        refine lv_aload_n hx hb dX1_endDay_87 rfl (lv_at hl 0 rfl) ?_
        refine mm_gfa C S (ci := 0) (k := 0) rfl in_X1 (by decide) q215 (fun _ h9 => h9) dX1_endDay_88 h (fun u16 h => ?_)
        refine lv_iload_n hx hb dX1_endDay_91 rfl (lv_at hl 1 rfl) ?_
        refine mm_aald C S (t := 6) rfl rfl h dX1_endDay_92 (fun u17 h => ?_)
        refine mm_gfiN C S (ci := 1) (k := 2) rfl in_X2 (by decide) q184 (fun _ h9 => h9) dX1_endDay_93 h (fun v18 h => ?_)
        refine lv_iconst (v := (-1)) hx hb dX1_endDay_96 (by decide) ?_
        refine lv_icmp_eq (tgt := 119) hx hb dX1_endDay_97 (by decide) (fun c9 => ?_) (fun c9 => ?_)
        · have h := h.1 c9
          exact j119 _ _ _ _ _ _ _ _ hk S hl h
        · have h := h.2 c9
          refine lv_aload_n hx hb dX1_endDay_100 rfl (lv_at hl 0 rfl) ?_
          refine mm_gfa C S (ci := 0) (k := 0) rfl in_X1 (by decide) q215 (fun _ h9 => h9) dX1_endDay_101 h (fun u19 h => ?_)
          refine lv_iload_n hx hb dX1_endDay_104 rfl (lv_at hl 1 rfl) ?_
          refine mm_aald C S (t := 6) rfl rfl h dX1_endDay_105 (fun u20 h => ?_)
          refine lv_aload_n hx hb dX1_endDay_106 rfl (lv_at hl 0 rfl) ?_
          refine lv_aload_n hx hb dX1_endDay_107 rfl (lv_at hl 0 rfl) ?_
          refine mm_gfa C S (ci := 0) (k := 0) rfl in_X1 (by decide) q215 (fun _ h9 => h9) dX1_endDay_108 h (fun u21 h => ?_)
          refine lv_iload_n hx hb dX1_endDay_111 rfl (lv_at hl 1 rfl) ?_
          refine mm_aald C S (t := 6) rfl rfl h dX1_endDay_112 (fun u22 h => ?_)
          obtain ⟨hI, h⟩ := h
          refine mm_V (As := [.ref u22]) (rest := [.ref u20]) C S hl.1 (wk_X1_depthOf hst0 h) (T := TX1) rfl hI (lw_V q569 q571 qs4 q48 q572) rfl pd_X1_depthOf ⟨Nat.le_of_ble_eq_true rfl, Nat.le_of_ble_eq_true rfl⟩ rfl rfl (Nat.le_of_ble_eq_true rfl) dX1_endDay_113 rfl rfl hk (Nat.zero_add _) (fun v9 M23 H locs hP S hk => ?_) (fun E q ce M9 H9 locs9 hX => hX.elim)
          obtain ⟨v24, rfl, h⟩ := hP
          refine W.eq (g2 := F0 m 116 ls [.int v24, .ref u20]) rfl ?_
          obtain ⟨hI, h⟩ := h
          refine mm_V (As := [.int v24]) (rest := []) C S hl.1 (wk_X2_endDay hst0 h) (T := TX2) rfl hI (lw_V q746 q747 q748 q56 q749) rfl pd_X2_endDay ⟨Nat.le_of_ble_eq_true rfl, Nat.le_of_ble_eq_true rfl⟩ rfl rfl (Nat.le_of_ble_eq_true rfl) dX1_endDay_116 rfl rfl hk (Nat.zero_add _) (fun v9 M25 H locs hP S hk => ?_) (fun E q ce M9 H9 locs9 hX => hX.elim)
          obtain ⟨rfl, h⟩ := hP
          refine W.eq (g2 := F0 m 119 ls []) rfl ?_
          exact j119 _ _ _ _ _ _ _ _ hk S hl h
  have j43 : ∀ (nf : Nat) (k r : Nat) (M : mM) (H : Heap) (locs : List Loc) (ls : Array Slot) (a0 : Nat) (x1 : Int32), k + r ≤ b → mW G A s M H locs → lv_has ls 2 [(0, .ref a0), (1, .int x1)] → wl_X1_endDay_43 G P nf r M a0 x1 → W p l e (mRm 13 b) s m args below meth c H locs k k (vx_MQ below (mQ G A (mRv P)) (mXC G A (fun _ _ _ => False)) args s b b A) (F0 m 43 ls []) := by
    intro nf
    induction nf with
    | zero =>
      intro k r M H locs ls a0 x1 hk S hl h
      rw [wl_X1_endDay_43] at h
      exact h.elim
    | succ n43 ih43 =>
      intro k r M H locs ls a0 x1 hk S hl h
      rw [wl_X1_endDay_43] at h
      refine lv_iload_n hx hb dX1_endDay_43 rfl (lv_at hl 1 rfl) ?_
      refine lv_aload_n hx hb dX1_endDay_44 rfl (lv_at hl 0 rfl) ?_
      refine mm_gfa C S (ci := 0) (k := 4) rfl in_X1 (by decide) q219 (fun _ h9 => h9) dX1_endDay_45 h (fun u9 h => ?_)
      obtain ⟨hI, h⟩ := h
      refine mm_F (As := []) (rest := [.int x1]) C S hl.1 (x := ⟨"java/util/List", "size", "()I"⟩) (wk_J2_size hst0 h) (T := TJ2) rfl hI (mWsF q284 q288 q290 q51 (lw_meth q292)) (by decide +kernel) pdi_2 ⟨Nat.le_of_ble_eq_true rfl, Nat.le_of_ble_eq_true rfl⟩ rfl rfl (Nat.le_of_ble_eq_true rfl) dX1_endDay_48 rfl rfl hk (Nat.zero_add _) (fun v9 M10 H locs hP S hk => ?_) (fun E q ce M9 H9 locs9 hX => hX.elim)
      obtain ⟨v11, rfl, h⟩ := hP
      refine W.eq (g2 := F0 m 53 ls [.int v11, .int x1]) rfl ?_
      refine lv_icmp_ge (tgt := 79) hx hb dX1_endDay_53 (by decide) (fun c9 => ?_) (fun c9 => ?_)
      · have h := h.1 c9
        refine lv_iconst (v := 0) hx hb dX1_endDay_79 (by decide) ?_
        refine lv_istore_n (lv' := [(1, .int 0), (0, .ref a0)]) hx hb dX1_endDay_80 rfl hl (by decide) rfl (fun ls hl => ?_)
        obtain ⟨nf, h⟩ := h
        exact j81 nf _ _ _ _ _ _ _ _ hk S (lv_sub hl [1, 0] rfl) h
      · have h := h.2 c9
        refine lv_aload_n hx hb dX1_endDay_56 rfl (lv_at hl 0 rfl) ?_
        refine lv_aload_n hx hb dX1_endDay_57 rfl (lv_at hl 0 rfl) ?_
        refine mm_gfa C S (ci := 0) (k := 4) rfl in_X1 (by decide) q219 (fun _ h9 => h9) dX1_endDay_58 h (fun u12 h => ?_)
        refine lv_iload_n hx hb dX1_endDay_61 rfl (lv_at hl 1 rfl) ?_
        obtain ⟨hI, h⟩ := h
        refine mm_F (As := [.int x1]) (rest := [.ref a0]) C S hl.1 (x := ⟨"java/util/List", "get", "(I)Ljava/lang/Object;"⟩) (wk_J2_get hst0 h) (T := TJ2) rfl hI (mWsF q294 q297 q299 q51 (lw_meth q301)) (by decide +kernel) pdi_4 ⟨Nat.le_of_ble_eq_true rfl, Nat.le_of_ble_eq_true rfl⟩ rfl rfl (Nat.le_of_ble_eq_true rfl) dX1_endDay_62 rfl rfl hk (Nat.zero_add _) (fun v9 M13 H locs hP S hk => ?_) (fun E q ce M9 H9 locs9 hX => hX.elim)
        obtain ⟨u14, rfl, h⟩ := hP
        refine W.eq (g2 := F0 m 67 ls [.ref u14, .ref a0]) rfl ?_
        refine mm_castS C S (ci := 4) (T := TX5) rfl rfl q624 h.1 dX1_endDay_67 ?_
        have h := h.2
        obtain ⟨hI, h⟩ := h
        refine mm_V (As := [.ref u14]) (rest := []) C S hl.1 (wk_X1_flow hst0 h) (T := TX1) rfl hI (lw_V q742 q744 qs10 q48 q745) rfl pd_X1_flow ⟨Nat.le_of_ble_eq_true rfl, Nat.le_of_ble_eq_true rfl⟩ rfl rfl (Nat.le_of_ble_eq_true rfl) dX1_endDay_70 rfl rfl hk (Nat.zero_add _) (fun v9 M15 H locs hP S hk => ?_) (fun E q ce M9 H9 locs9 hX => hX.elim)
        obtain ⟨rfl, h⟩ := hP
        refine W.eq (g2 := F0 m 73 ls []) rfl ?_
        refine lv_iinc (v := (x1 + 1)) (lv' := [(1, .int (x1 + 1)), (0, .ref a0)]) hx hb dX1_endDay_73 hl (k := 1) rfl rfl (by decide) rfl (fun ls hl => ?_)
        refine lv_goto (tgt := 43) hx hb dX1_endDay_76 (by decide) ?_
        exact ih43 _ _ _ _ _ _ _ _ hk S (lv_sub hl [1, 0] rfl) h
  have j2 : ∀ (nf : Nat) (k r : Nat) (M : mM) (H : Heap) (locs : List Loc) (ls : Array Slot) (a0 : Nat) (x1 : Int32), k + r ≤ b → mW G A s M H locs → lv_has ls 2 [(0, .ref a0), (1, .int x1)] → wl_X1_endDay_2 G P nf r M a0 x1 → W p l e (mRm 13 b) s m args below meth c H locs k k (vx_MQ below (mQ G A (mRv P)) (mXC G A (fun _ _ _ => False)) args s b b A) (F0 m 2 ls []) := by
    intro nf
    induction nf with
    | zero =>
      intro k r M H locs ls a0 x1 hk S hl h
      rw [wl_X1_endDay_2] at h
      exact h.elim
    | succ n2 ih2 =>
      intro k r M H locs ls a0 x1 hk S hl h
      rw [wl_X1_endDay_2] at h
      refine lv_iload_n hx hb dX1_endDay_2 rfl (lv_at hl 1 rfl) ?_
      refine lv_iconst (v := 4) hx hb dX1_endDay_3 (by decide) ?_
      refine lv_icmp_ge (tgt := 41) hx hb dX1_endDay_4 (by decide) (fun c9 => ?_) (fun c9 => ?_)
      · have h := h.1 c9
        refine lv_iconst (v := 0) hx hb dX1_endDay_41 (by decide) ?_
        refine lv_istore_n (lv' := [(1, .int 0), (0, .ref a0)]) hx hb dX1_endDay_42 rfl hl (by decide) rfl (fun ls hl => ?_)
        obtain ⟨nf, h⟩ := h
        exact j43 nf _ _ _ _ _ _ _ _ hk S (lv_sub hl [1, 0] rfl) h
      · have h := h.2 c9
        refine lv_aload_n hx hb dX1_endDay_7 rfl (lv_at hl 0 rfl) ?_
        refine mm_gfa C S (ci := 0) (k := 2) rfl in_X1 (by decide) q217 (fun _ h9 => h9) dX1_endDay_8 h (fun u1 h => ?_)
        refine lv_iload_n hx hb dX1_endDay_11 rfl (lv_at hl 1 rfl) ?_
        refine lv_iconst (v := 0) hx hb dX1_endDay_12 (by decide) ?_
        refine lv_bipush (v := 9) hx hb dX1_endDay_13 (by decide) ?_
        refine lv_aload_n hx hb dX1_endDay_15 rfl (lv_at hl 0 rfl) ?_
        refine mm_gfa C S (ci := 0) (k := 2) rfl in_X1 (by decide) q217 (fun _ h9 => h9) dX1_endDay_16 h (fun u2 h => ?_)
        refine lv_iload_n hx hb dX1_endDay_19 rfl (lv_at hl 1 rfl) ?_
        refine mm_iald C S h dX1_endDay_20 (fun v3 h => ?_)
        refine lv_aload_n hx hb dX1_endDay_21 rfl (lv_at hl 0 rfl) ?_
        refine mm_gfa C S (ci := 0) (k := 3) rfl in_X1 (by decide) q218 (fun _ h9 => h9) dX1_endDay_22 h (fun u4 h => ?_)
        refine lv_iload_n hx hb dX1_endDay_25 rfl (lv_at hl 1 rfl) ?_
        refine mm_iald C S h dX1_endDay_26 (fun v5 h => ?_)
        refine lv_iadd hx hb dX1_endDay_27 ?_
        refine mm_min C hl.1 q341 q331 q68 q332 (Nat.le_of_ble_eq_true rfl) (Nat.le_of_ble_eq_true rfl) (Nat.le_trans (Nat.le_add_right _ _) hk) (Nat.le_trans (Nat.le_add_right _ _) hk) dX1_endDay_28 ?_
        refine lv_topi (fun g6 eg6 => ?_)
        have h := h g6 eg6
        refine mm_max C hl.1 q327 q328 q68 q329 (Nat.le_of_ble_eq_true rfl) (Nat.le_of_ble_eq_true rfl) (Nat.le_trans (Nat.le_add_right _ _) hk) (Nat.le_trans (Nat.le_add_right _ _) hk) dX1_endDay_31 ?_
        refine lv_topi (fun g7 eg7 => ?_)
        have h := h g7 eg7
        refine mm_iast C S h dX1_endDay_34 (fun M8 H locs h S => ?_)
        refine lv_iinc (v := (x1 + 1)) (lv' := [(1, .int (x1 + 1)), (0, .ref a0)]) hx hb dX1_endDay_35 hl (k := 1) rfl rfl (by decide) rfl (fun ls hl => ?_)
        refine lv_goto (tgt := 2) hx hb dX1_endDay_38 (by decide) ?_
        exact ih2 _ _ _ _ _ _ _ _ hk S (lv_sub hl [1, 0] rfl) h
  unfold wp_X1_endDay at h
  refine lv_iconst (v := 0) hx hb dX1_endDay_0 (by decide) ?_
  refine lv_istore_n (lv' := [(1, .int 0), (0, .ref a0)]) hx hb dX1_endDay_1 rfl hl (by decide) rfl (fun ls hl => ?_)
  obtain ⟨nf, h⟩ := h
  exact j2 nf _ _ _ _ _ _ _ _ hk S (lv_sub hl [1, 0] rfl) h
/-! X1_pass: level 14, alloc, throws java/lang/IllegalArgumentException,java/lang/IllegalStateException -/
def wl_X1_pass_30 (G : mG) (P : Int32 → mM → Prop) (X : String → Nat → mM → Prop) : Nat → Nat → mM → Nat → Int32 → Int32 → Prop
  | 0, _, _, _, _, _ => False
  | n + 1, r, M, a0, x1, x2 => (x1 ≤ x2 → gfi M a0 0 16 fun v8 => pfi M a0 0 16 (v8 + x1) fun M9 => gfi M9 a0 0 16 fun v10 => P v10 M9) ∧ (¬ x1 ≤ x2 → isc M a0 0 ∧ (wp_X1_endDay G 0 (fun M11 => (wl_X1_pass_30 G P X n) r M11 a0 x1 (x2 + 1)) M a0))
def wb_X1_pass_25 (G : mG) (P : Int32 → mM → Prop) (X : String → Nat → mM → Prop) (r : Nat) (M : mM) (a0 : Nat) (x1 : Int32) (s0 : Int32) : Prop :=
  ∃ b6 r7 : Nat, b6 + r7 = r ∧ wp_X1_checkState G b6 (fun M5 => ∃ n30, wl_X1_pass_30 G P X n30 r7 M5 a0 x1 0) X M s0
def wp_X1_pass (G : mG) (b : Nat) (P : Int32 → mM → Prop) (X : String → Nat → mM → Prop) (M : mM) (a0 : Nat) (x1 : Int32) : Prop :=
  ∃ b2 r3 : Nat, b2 + r3 = b ∧ wp_X1_checkRange G b2 (fun M1 => gfi M1 a0 0 16 fun v4 => (20000 < (v4 + x1) → wb_X1_pass_25 G P X r3 M1 a0 x1 0) ∧ (¬ 20000 < (v4 + x1) → wb_X1_pass_25 G P X r3 M1 a0 x1 1)) X M x1 1 400
set_option maxHeartbeats 4000000 in
set_option maxRecDepth 100000 in
theorem wk_X1_pass {l : Launch} (hst0 : l.stackTraces = false) {G : mG} {b : Nat} {P : Int32 → mM → Prop} {X : String → Nat → mM → Prop} {M : mM} {a0 : Nat} {x1 : Int32} (h : wp_X1_pass G b P X M a0 x1) : mMet l yX1_pass (ws_ yX1_pass cX1_pass 3 (Option.some Jvm.ClassFile.FieldType.int)) 14 b G [.ref a0, .int x1] M (mRi P) X := by
  refine mm_met hst0 (by decide) (Nat.le_of_ble_eq_true rfl) ?_
  intro p e s m args below meth c ls C hr hnt hnm hl S
  have hl : lv_has ls 3 [(0, .ref a0), (1, .int x1)] := hl
  generalize mA M s.heap.size = A at C S ⊢
  have hx := C.hx
  have hb := C.hb
  have hk : 0 + b ≤ b := Nat.le_of_eq (Nat.zero_add b)
  have j30 : ∀ (nf : Nat) (k r : Nat) (M : mM) (H : Heap) (locs : List Loc) (ls : Array Slot) (a0 : Nat) (x1 : Int32) (x2 : Int32), k + r ≤ b → mW G A s M H locs → lv_has ls 3 [(0, .ref a0), (1, .int x1), (2, .int x2)] → wl_X1_pass_30 G P X nf r M a0 x1 x2 → W p l e (mRm 14 b) s m args below meth c H locs k k (vx_MQ below (mQ G A (mRi P)) (mXC G A X) args s b b A) (F0 m 30 ls []) := by
    intro nf
    induction nf with
    | zero =>
      intro k r M H locs ls a0 x1 x2 hk S hl h
      rw [wl_X1_pass_30] at h
      exact h.elim
    | succ n30 ih30 =>
      intro k r M H locs ls a0 x1 x2 hk S hl h
      rw [wl_X1_pass_30] at h
      refine lv_iload_n hx hb dX1_pass_30 rfl (lv_at hl 2 rfl) ?_
      refine lv_iload_n hx hb dX1_pass_31 rfl (lv_at hl 1 rfl) ?_
      refine lv_icmp_ge (tgt := 45) hx hb dX1_pass_32 (by decide) (fun c9 => ?_) (fun c9 => ?_)
      · have h := h.1 c9
        refine lv_aload_n hx hb dX1_pass_45 rfl (lv_at hl 0 rfl) ?_
        refine lv_dup hx hb dX1_pass_46 rfl ?_
        refine mm_gfi C S (ci := 0) (k := 16) rfl in_X1 (by decide) q231 (fun _ h9 => h9) dX1_pass_47 h (fun v8 h => ?_)
        refine lv_iload_n hx hb dX1_pass_50 rfl (lv_at hl 1 rfl) ?_
        refine lv_iadd hx hb dX1_pass_51 ?_
        refine mm_pfi C S (ci := 0) (k := 16) rfl in_X1 tyX1_ok nmX1 (by decide) q231 (fun _ h9 => h9) rfl dX1_pass_52 rfl h (fun M9 H locs h S => ?_)
        refine lv_aload_n hx hb dX1_pass_55 rfl (lv_at hl 0 rfl) ?_
        refine mm_gfi C S (ci := 0) (k := 16) rfl in_X1 (by decide) q231 (fun _ h9 => h9) dX1_pass_56 h (fun v10 h => ?_)
        exact mm_iret C S hr (Nat.le_trans (Nat.le_add_right _ _) hk) dX1_pass_59 h
      · have h := h.2 c9
        refine lv_aload_n hx hb dX1_pass_35 rfl (lv_at hl 0 rfl) ?_
        obtain ⟨hI, h⟩ := h
        refine mm_V (As := []) (rest := []) C S hl.1 (wk_X1_endDay hst0 h) (T := TX1) rfl hI (lw_V q738 q740 qs9 q48 q741) rfl pd_X1_endDay ⟨Nat.le_of_ble_eq_true rfl, Nat.le_of_ble_eq_true rfl⟩ rfl rfl (Nat.le_of_ble_eq_true rfl) dX1_pass_36 rfl rfl hk (Nat.zero_add _) (fun v9 M11 H locs hP S hk => ?_) (fun E q ce M9 H9 locs9 hX => hX.elim)
        obtain ⟨rfl, h⟩ := hP
        refine W.eq (g2 := F0 m 39 ls []) rfl ?_
        refine lv_iinc (v := (x2 + 1)) (lv' := [(2, .int (x2 + 1)), (0, .ref a0), (1, .int x1)]) hx hb dX1_pass_39 hl (k := 2) rfl rfl (by decide) rfl (fun ls hl => ?_)
        refine lv_goto (tgt := 30) hx hb dX1_pass_42 (by decide) ?_
        exact ih30 _ _ _ _ _ _ _ _ _ hk S (lv_sub hl [1, 2, 0] rfl) h
  have j25 : ∀ (k r : Nat) (M : mM) (H : Heap) (locs : List Loc) (ls : Array Slot) (a0 : Nat) (x1 : Int32) (s0 : Int32), k + r ≤ b → mW G A s M H locs → lv_has ls 3 [(0, .ref a0), (1, .int x1)] → wb_X1_pass_25 G P X r M a0 x1 s0 → W p l e (mRm 14 b) s m args below meth c H locs k k (vx_MQ below (mQ G A (mRi P)) (mXC G A X) args s b b A) (F0 m 25 ls [.int s0]) := by
    intro k r M H locs ls a0 x1 s0 hk S hl h
    unfold wb_X1_pass_25 at h
    obtain ⟨b6, r7, hb9, h⟩ := h
    refine mm_S (As := [.int s0]) (rest := []) C S hl.1 (wk_X1_checkState hst0 h) (lw_S q606 q607 q48 q608) pd_X1_checkState ⟨Nat.le_of_ble_eq_true rfl, Nat.le_of_ble_eq_true rfl⟩ rfl rfl (Nat.le_of_ble_eq_true rfl) dX1_pass_25 rfl rfl hk hb9 (fun v9 M5 H locs hP S hk => ?_) (fun E q ce M9 H9 locs9 hX S9 hk9 hc9 hv9 hf9 => mm_out C S9 (fun x hx => (hnt x hx).elim) (Nat.le_trans (Nat.le_add_right _ _) hk9) hc9 hv9 hf9 hX)
    obtain ⟨rfl, h⟩ := hP
    refine W.eq (g2 := F0 m 28 ls []) rfl ?_
    refine lv_iconst (v := 0) hx hb dX1_pass_28 (by decide) ?_
    refine lv_istore_n (lv' := [(2, .int 0), (0, .ref a0), (1, .int x1)]) hx hb dX1_pass_29 rfl hl (by decide) rfl (fun ls hl => ?_)
    obtain ⟨nf, h⟩ := h
    exact j30 nf _ _ _ _ _ _ _ _ _ hk S (lv_sub hl [1, 2, 0] rfl) h
  unfold wp_X1_pass at h
  refine lv_iload_n hx hb dX1_pass_0 rfl (lv_at hl 1 rfl) ?_
  refine lv_iconst (v := 1) hx hb dX1_pass_1 (by decide) ?_
  refine lv_sipush (v := 400) hx hb dX1_pass_2 (by decide) ?_
  obtain ⟨b2, r3, hb9, h⟩ := h
  refine mm_S (As := [.int x1, .int 1, .int 400]) (rest := []) C S hl.1 (wk_X1_checkRange hst0 h) (lw_S q540 q541 q48 q542) pd_X1_checkRange ⟨Nat.le_of_ble_eq_true rfl, Nat.le_of_ble_eq_true rfl⟩ rfl rfl (Nat.le_of_ble_eq_true rfl) dX1_pass_5 rfl rfl hk hb9 (fun v9 M1 H locs hP S hk => ?_) (fun E q ce M9 H9 locs9 hX S9 hk9 hc9 hv9 hf9 => mm_out C S9 (fun x hx => (hnt x hx).elim) (Nat.le_trans (Nat.le_add_right _ _) hk9) hc9 hv9 hf9 hX)
  obtain ⟨rfl, h⟩ := hP
  refine W.eq (g2 := F0 m 8 ls []) rfl ?_
  refine lv_aload_n hx hb dX1_pass_8 rfl (lv_at hl 0 rfl) ?_
  refine mm_gfi C S (ci := 0) (k := 16) rfl in_X1 (by decide) q231 (fun _ h9 => h9) dX1_pass_9 h (fun v4 h => ?_)
  refine lv_iload_n hx hb dX1_pass_12 rfl (lv_at hl 1 rfl) ?_
  refine lv_iadd hx hb dX1_pass_13 ?_
  refine lv_sipush (v := 20000) hx hb dX1_pass_14 (by decide) ?_
  refine lv_icmp_gt (tgt := 24) hx hb dX1_pass_17 (by decide) (fun c9 => ?_) (fun c9 => ?_)
  · have h := h.1 c9
    refine lv_iconst (v := 0) hx hb dX1_pass_24 (by decide) ?_
    exact j25 _ _ _ _ _ _ _ _ _ hk S hl h
  · have h := h.2 c9
    refine lv_iconst (v := 1) hx hb dX1_pass_20 (by decide) ?_
    refine lv_goto (tgt := 25) hx hb dX1_pass_21 (by decide) ?_
    exact j25 _ _ _ _ _ _ _ _ _ hk S hl h
/-! X0_pass: level 15, alloc -/
def wb_X0_pass_12 (G : mG) (P : Int32 → mM → Prop) (r : Nat) (M : mM) (s0 : Nat) : Prop :=
  P 1 M
def wb_X0_pass_15 (G : mG) (P : Int32 → mM → Prop) (r : Nat) (M : mM) (s0 : Nat) : Prop :=
  P 2 M
def wp_X0_pass (G : mG) (b : Nat) (P : Int32 → mM → Prop) (M : mM) (a0 : Nat) (x1 : Int32) (a2 : Nat) : Prop :=
  isc M a0 0 ∧ (∃ b2 r3 : Nat, b2 + r3 = b ∧ wp_X1_pass G b2 (fun v4 M1 => stl M1 4 a2 0 v4.toInt64 fun M5 => P 0 M5) (fun E9 u6 M7 => (E9 = "java/lang/IllegalArgumentException" ∧ wb_X0_pass_12 G P r3 M7 u6) ∨ (E9 = "java/lang/IllegalStateException" ∧ wb_X0_pass_15 G P r3 M7 u6)) M a0 x1)
set_option maxHeartbeats 4000000 in
set_option maxRecDepth 100000 in
theorem wk_X0_pass {l : Launch} (hst0 : l.stackTraces = false) {G : mG} {b : Nat} {P : Int32 → mM → Prop} {M : mM} {a0 : Nat} {x1 : Int32} {a2 : Nat} (h : wp_X0_pass G b P M a0 x1 a2) : mMet l yX0_pass (wsW_ yX0_pass cX0_pass 4 (Option.some Jvm.ClassFile.FieldType.int) [((0 : Nat), (9 : Nat), (12 : Nat), (15 : Nat)), ((0 : Nat), (9 : Nat), (15 : Nat), (35 : Nat))]) 15 b G [.ref a0, .int x1, .ref a2] M (mRi P) (fun _ _ _ => False) := by
  refine mm_metW hst0 (by decide) (Nat.le_of_ble_eq_true rfl) ?_
  intro p e s m args below meth c ls C hr htab hnm hl S
  have hl : lv_has ls 4 [(0, .ref a0), (1, .int x1), (2, .ref a2)] := hl
  generalize mA M s.heap.size = A at C S ⊢
  have hx := C.hx
  have hb := C.hb
  have hk : 0 + b ≤ b := Nat.le_of_eq (Nat.zero_add b)
  have j12 : ∀ (k r : Nat) (M : mM) (H : Heap) (locs : List Loc) (ls : Array Slot) (s0 : Nat), k + r ≤ b → mW G A s M H locs → lv_has ls 4 [] → wb_X0_pass_12 G P r M s0 → W p l e (mRm 15 b) s m args below meth c H locs k k (vx_MQ below (mQ G A (mRi P)) (mXC G A (fun _ _ _ => False)) args s b b A) (F0 m 12 ls [.ref s0]) := by
    intro k r M H locs ls s0 hk S hl h
    unfold wb_X0_pass_12 at h
    refine lv_astore_n (lv' := [(3, .ref s0)]) hx hb dX0_pass_12 rfl hl (by decide) rfl (fun ls hl => ?_)
    refine lv_iconst (v := 1) hx hb dX0_pass_13 (by decide) ?_
    exact mm_iret C S hr (Nat.le_trans (Nat.le_add_right _ _) hk) dX0_pass_14 h
  have j15 : ∀ (k r : Nat) (M : mM) (H : Heap) (locs : List Loc) (ls : Array Slot) (s0 : Nat), k + r ≤ b → mW G A s M H locs → lv_has ls 4 [] → wb_X0_pass_15 G P r M s0 → W p l e (mRm 15 b) s m args below meth c H locs k k (vx_MQ below (mQ G A (mRi P)) (mXC G A (fun _ _ _ => False)) args s b b A) (F0 m 15 ls [.ref s0]) := by
    intro k r M H locs ls s0 hk S hl h
    unfold wb_X0_pass_15 at h
    refine lv_astore_n (lv' := [(3, .ref s0)]) hx hb dX0_pass_15 rfl hl (by decide) rfl (fun ls hl => ?_)
    refine lv_iconst (v := 2) hx hb dX0_pass_16 (by decide) ?_
    exact mm_iret C S hr (Nat.le_trans (Nat.le_add_right _ _) hk) dX0_pass_17 h
  unfold wp_X0_pass at h
  refine lv_aload_n hx hb dX0_pass_0 rfl (lv_at hl 2 rfl) ?_
  refine lv_iconst (v := 0) hx hb dX0_pass_1 (by decide) ?_
  refine lv_aload_n hx hb dX0_pass_2 rfl (lv_at hl 0 rfl) ?_
  refine lv_iload_n hx hb dX0_pass_3 rfl (lv_at hl 1 rfl) ?_
  obtain ⟨hI, h⟩ := h
  obtain ⟨b2, r3, hb9, h⟩ := h
  refine mm_V (As := [.int x1]) (rest := [.int 0, .ref a2]) C S hl.1 (wk_X1_pass hst0 h) (T := TX1) rfl hI (lw_V q734 q735 q736 q48 q737) rfl pd_X1_pass ⟨Nat.le_of_ble_eq_true rfl, Nat.le_of_ble_eq_true rfl⟩ rfl rfl (Nat.le_of_ble_eq_true rfl) dX0_pass_4 rfl rfl hk hb9 (fun v9 M1 H locs hP S hk => ?_) (fun E u6 ce M7 H locs hX S hk hc9 hv9 hf9 => ?_)
  · obtain ⟨v4, rfl, h⟩ := hP
    refine W.eq (g2 := F0 m 7 ls [.int v4, .int 0, .ref a2]) rfl ?_
    refine lv_i2l hx hb dX0_pass_7 rfl ?_
    refine mm_last C S h dX0_pass_8 (fun M5 H locs h S => ?_)
    refine lv_goto (tgt := 18) hx hb dX0_pass_9 (by decide) ?_
    refine lv_iconst (v := 0) hx hb dX0_pass_18 (by decide) ?_
    exact mm_iret C S hr (Nat.le_trans (Nat.le_add_right _ _) hk) dX0_pass_19 h
  · rcases hX with ⟨rfl, h⟩ | ⟨rfl, h⟩
    · refine vx_catch (pc := 4) (name := "java/lang/IllegalArgumentException") C.hown [] (⟨0, 9, 12, 15⟩ : ExceptionTableEntry) [(⟨0, 9, 15, 35⟩ : ExceptionTableEntry)] htab mm_pass0 (by decide) (by decide) (C.ts _ q511) (va_Nw.use rfl (C.nw q548 rfl)) hc9 hv9 hf9 ?_
      exact j12 _ _ _ _ _ _ _ hk S (lv_sub hl [] rfl) h
    · refine vx_catch (pc := 4) (name := "java/lang/IllegalStateException") C.hown [(⟨0, 9, 12, 15⟩ : ExceptionTableEntry)] (⟨0, 9, 15, 35⟩ : ExceptionTableEntry) [] htab (mm_pass1 C (nm := "java/lang/IllegalArgumentException") (by decide) q511 (by decide) mm_pass0) (by decide) (by decide) (C.ts _ q601) (va_Nw.use rfl (C.nw q611 rfl)) hc9 hv9 hf9 ?_
      exact j15 _ _ _ _ _ _ _ hk S (lv_sub hl [] rfl) h
/-! X6_init: level 10 -/
def wp_X6_init (G : mG) (b : Nat) (P : mM → Prop) (M : mM) (a0 : Nat) (a1 : Nat) : Prop :=
  pfq M a0 5 0 (some a1) fun M1 => P M1
set_option maxHeartbeats 4000000 in
set_option maxRecDepth 100000 in
theorem wk_X6_init {l : Launch} (hst0 : l.stackTraces = false) {G : mG} {b : Nat} {P : mM → Prop} {M : mM} {a0 : Nat} {a1 : Nat} (h : wp_X6_init G b P M a0 a1) : mMet l yX6_init (ws_ yX6_init cX6_init 2 (Option.none : Option Jvm.ClassFile.FieldType)) 10 b G [.ref a0, .ref a1] M (mRv P) (fun _ _ _ => False) := by
  refine mm_met hst0 (by decide) (Nat.le_of_ble_eq_true rfl) ?_
  intro p e s m args below meth c ls C hr hnt hnm hl S
  have hl : lv_has ls 2 [(0, .ref a0), (1, .ref a1)] := hl
  generalize mA M s.heap.size = A at C S ⊢
  have hx := C.hx
  have hb := C.hb
  have hk : 0 + b ≤ b := Nat.le_of_eq (Nat.zero_add b)
  unfold wp_X6_init at h
  refine lv_aload_n hx hb dX6_init_0 rfl (lv_at hl 0 rfl) ?_
  refine mm_init C hl.1 q1107 q100 q101 dX6_init_1 (Nat.le_of_ble_eq_true rfl) (Nat.le_of_ble_eq_true rfl) ?_
  refine lv_aload_n hx hb dX6_init_4 rfl (lv_at hl 0 rfl) ?_
  refine lv_aload_n hx hb dX6_init_5 rfl (lv_at hl 1 rfl) ?_
  refine mm_pfqF C S (ci := 5) (k := 0) (v := (some a1)) rfl in_X6 tyX6_ok nmX6 (by decide) q1108 (fun _ h9 => h9) rfl (hnm.trans rfl) rfl dX6_init_6 rfl h (fun M1 H locs h S => ?_)
  exact mm_vret C S hr (Nat.le_trans (Nat.le_add_right _ _) hk) dX6_init_9 h
/-! X7_init_X8: level 10 -/
def wp_X7_init_X8 (G : mG) (b : Nat) (P : mM → Prop) (M : mM) (a0 : Nat) : Prop :=
  pfi M a0 6 0 1 fun M1 => P M1
set_option maxHeartbeats 4000000 in
set_option maxRecDepth 100000 in
theorem wk_X7_init_X8 {l : Launch} (hst0 : l.stackTraces = false) {G : mG} {b : Nat} {P : mM → Prop} {M : mM} {a0 : Nat} (h : wp_X7_init_X8 G b P M a0) : mMet l yX7_init (ws_ yX7_init cX7_init 1 (Option.none : Option Jvm.ClassFile.FieldType)) 10 b G [.ref a0] M (mRv P) (fun _ _ _ => False) := by
  refine mm_met hst0 (by decide) (Nat.le_of_ble_eq_true rfl) ?_
  intro p e s m args below meth c ls C hr hnt hnm hl S
  have hl : lv_has ls 1 [(0, .ref a0)] := hl
  generalize mA M s.heap.size = A at C S ⊢
  have hx := C.hx
  have hb := C.hb
  have hk : 0 + b ≤ b := Nat.le_of_eq (Nat.zero_add b)
  unfold wp_X7_init_X8 at h
  refine lv_aload_n hx hb dX7_init_0 rfl (lv_at hl 0 rfl) ?_
  refine mm_init C hl.1 q1131 q100 q101 dX7_init_1 (Nat.le_of_ble_eq_true rfl) (Nat.le_of_ble_eq_true rfl) ?_
  refine lv_aload_n hx hb dX7_init_4 rfl (lv_at hl 0 rfl) ?_
  refine lv_iconst (v := 1) hx hb dX7_init_5 (by decide) ?_
  refine mm_pfi C S (ci := 6) (k := 0) rfl in_X8 tyX8_ok nmX8 (by decide) q1136 (fun _ h9 => h9) rfl dX7_init_6 rfl h (fun M1 H locs h S => ?_)
  exact mm_vret C S hr (Nat.le_trans (Nat.le_add_right _ _) hk) dX7_init_9 h
/-! X8_init: level 13, alloc -/
def wp_X8_init (G : mG) (b : Nat) (P : mM → Prop) (M : mM) (a0 : Nat) : Prop :=
  wp_X7_init_X8 G 0 (fun M1 => nwo M1 b 16 3 dfsJ2 fun u2 M3 r4 => wp_J2_init G 0 (fun M5 => pfq M5 a0 6 1 (some u2) fun M6 => P M6) M3 u2) M a0
set_option maxHeartbeats 4000000 in
set_option maxRecDepth 100000 in
theorem wk_X8_init {l : Launch} (hst0 : l.stackTraces = false) {G : mG} {b : Nat} {P : mM → Prop} {M : mM} {a0 : Nat} (h : wp_X8_init G b P M a0) : mMet l yX8_init (ws_ yX8_init cX8_init 1 (Option.none : Option Jvm.ClassFile.FieldType)) 13 b G [.ref a0] M (mRv P) (fun _ _ _ => False) := by
  refine mm_met hst0 (by decide) (Nat.le_of_ble_eq_true rfl) ?_
  intro p e s m args below meth c ls C hr hnt hnm hl S
  have hl : lv_has ls 1 [(0, .ref a0)] := hl
  generalize mA M s.heap.size = A at C S ⊢
  have hx := C.hx
  have hb := C.hb
  have hk : 0 + b ≤ b := Nat.le_of_eq (Nat.zero_add b)
  unfold wp_X8_init at h
  refine lv_aload_n hx hb dX8_init_0 rfl (lv_at hl 0 rfl) ?_
  refine mm_IN (As := []) (rest := []) C S hl.1 (wk_X7_init_X8 hst0 h) q1130 q77 q1128 q1129 rfl pd_X7_init ⟨Nat.le_of_ble_eq_true rfl, Nat.le_of_ble_eq_true rfl⟩ rfl rfl (Nat.le_of_ble_eq_true rfl) dX8_init_1 rfl rfl hk (Nat.zero_add _) (fun v9 M1 H locs hP S hk => ?_) (fun E q ce M9 H9 locs9 hX => hX.elim)
  obtain ⟨rfl, h⟩ := hP
  refine W.eq (g2 := F0 m 4 ls []) rfl ?_
  refine lv_aload_n hx hb dX8_init_4 rfl (lv_at hl 0 rfl) ?_
  refine mm_new C S (ci := 16) (T := TJ2) rfl in_J2 tyJ2_ok q1132 q107 q51 dfJ2 (by decide) dX8_init_5 rfl rfl hk h (fun u2 M3 r4 H h S hk => ?_)
  refine lv_dup hx hb dX8_init_8 rfl ?_
  refine mm_I (As := []) (rest := [.ref u2, .ref a0]) C S hl.1 (wk_J2_init hst0 h) q110 q51 q1133 q109 rfl pd_J2_init ⟨Nat.le_of_ble_eq_true rfl, Nat.le_of_ble_eq_true rfl⟩ rfl rfl (Nat.le_of_ble_eq_true rfl) dX8_init_9 rfl rfl hk (Nat.zero_add _) (fun v9 M5 H locs hP S hk => ?_) (fun E q ce M9 H9 locs9 hX => hX.elim)
  obtain ⟨rfl, h⟩ := hP
  refine W.eq (g2 := F0 m 12 ls [.ref u2, .ref a0]) rfl ?_
  refine mm_pfqF C S (ci := 6) (k := 1) (v := (some u2)) rfl in_X8 tyX8_ok nmX8 (by decide) q1134 (fun _ h9 => h9) rfl (hnm.trans rfl) rfl dX8_init_12 rfl h (fun M6 H locs h S => ?_)
  exact mm_vret C S hr (Nat.le_trans (Nat.le_add_right _ _) hk) dX8_init_15 h
/-! X6_sign: level 14 -/
def wb_X6_sign_29 (G : mG) (P : Int32 → mM → Prop) (r : Nat) (M : mM) (s0 : Int32) : Prop :=
  narrow .char (.int s0) = .int s0 ∧ P s0 M
def wp_X6_sign (G : mG) (b : Nat) (P : Int32 → mM → Prop) (M : mM) (a0 : Nat) : Prop :=
  gfi M a0 5 1 fun v1 => gfa M a0 5 0 fun u2 => isc M u2 18 ∧ (wp_J5_length G 0 (fun v4 M3 => (v4 ≤ v1 → wb_X6_sign_29 G P b M3 0) ∧ (¬ v4 ≤ v1 → gfa M3 a0 5 0 fun u5 => gfi M3 a0 5 1 fun v6 => isc M3 u5 18 ∧ (wp_J5_charAt G 0 (fun v8 M7 => wb_X6_sign_29 G P b M7 v8) M3 u5 v6))) M u2)
set_option maxHeartbeats 4000000 in
set_option maxRecDepth 100000 in
theorem wk_X6_sign {l : Launch} (hst0 : l.stackTraces = false) {G : mG} {b : Nat} {P : Int32 → mM → Prop} {M : mM} {a0 : Nat} (h : wp_X6_sign G b P M a0) : mMet l yX6_sign (ws_ yX6_sign cX6_sign 1 (Option.some Jvm.ClassFile.FieldType.char)) 14 b G [.ref a0] M (mRi P) (fun _ _ _ => False) := by
  refine mm_met hst0 (by decide) (Nat.le_of_ble_eq_true rfl) ?_
  intro p e s m args below meth c ls C hr hnt hnm hl S
  have hl : lv_has ls 1 [(0, .ref a0)] := hl
  generalize mA M s.heap.size = A at C S ⊢
  have hx := C.hx
  have hb := C.hb
  have hk : 0 + b ≤ b := Nat.le_of_eq (Nat.zero_add b)
  have j29 : ∀ (k r : Nat) (M : mM) (H : Heap) (locs : List Loc) (ls : Array Slot) (s0 : Int32), k + r ≤ b → mW G A s M H locs → lv_has ls 1 [] → wb_X6_sign_29 G P r M s0 → W p l e (mRm 14 b) s m args below meth c H locs k k (vx_MQ below (mQ G A (mRi P)) (mXC G A (fun _ _ _ => False)) args s b b A) (F0 m 29 ls [.int s0]) := by
    intro k r M H locs ls s0 hk S hl h
    unfold wb_X6_sign_29 at h
    exact mm_zret C S hr (Nat.le_trans (Nat.le_add_right _ _) hk) dX6_sign_29 h
  unfold wp_X6_sign at h
  refine lv_aload_n hx hb dX6_sign_0 rfl (lv_at hl 0 rfl) ?_
  refine mm_gfi C S (ci := 5) (k := 1) rfl in_X6 (by decide) q1109 (fun _ h9 => h9) dX6_sign_1 h (fun v1 h => ?_)
  refine lv_aload_n hx hb dX6_sign_4 rfl (lv_at hl 0 rfl) ?_
  refine mm_gfa C S (ci := 5) (k := 0) rfl in_X6 (by decide) q1108 (fun _ h9 => h9) dX6_sign_5 h (fun u2 h => ?_)
  obtain ⟨hI, h⟩ := h
  refine mm_V (As := []) (rest := [.int v1]) C S hl.1 (wk_J5_length hst0 h) (T := TJ5) rfl hI (lw_V q1151 q881 q882 q54 q883) rfl pd_J5_length ⟨Nat.le_of_ble_eq_true rfl, Nat.le_of_ble_eq_true rfl⟩ rfl rfl (Nat.le_of_ble_eq_true rfl) dX6_sign_8 rfl rfl hk (Nat.zero_add _) (fun v9 M3 H locs hP S hk => ?_) (fun E q ce M9 H9 locs9 hX => hX.elim)
  obtain ⟨v4, rfl, h⟩ := hP
  refine W.eq (g2 := F0 m 11 ls [.int v4, .int v1]) rfl ?_
  refine lv_icmp_ge (tgt := 28) hx hb dX6_sign_11 (by decide) (fun c9 => ?_) (fun c9 => ?_)
  · have h := h.1 c9
    refine lv_iconst (v := 0) hx hb dX6_sign_28 (by decide) ?_
    exact j29 _ _ _ _ _ _ _ hk S (lv_sub hl [] rfl) h
  · have h := h.2 c9
    refine lv_aload_n hx hb dX6_sign_14 rfl (lv_at hl 0 rfl) ?_
    refine mm_gfa C S (ci := 5) (k := 0) rfl in_X6 (by decide) q1108 (fun _ h9 => h9) dX6_sign_15 h (fun u5 h => ?_)
    refine lv_aload_n hx hb dX6_sign_18 rfl (lv_at hl 0 rfl) ?_
    refine mm_gfi C S (ci := 5) (k := 1) rfl in_X6 (by decide) q1109 (fun _ h9 => h9) dX6_sign_19 h (fun v6 h => ?_)
    obtain ⟨hI, h⟩ := h
    refine mm_V (As := [.int v6]) (rest := []) C S hl.1 (wk_J5_charAt hst0 h) (T := TJ5) rfl hI (lw_V q1152 q967 q968 q54 q969) rfl pd_J5_charAt ⟨Nat.le_of_ble_eq_true rfl, Nat.le_of_ble_eq_true rfl⟩ rfl rfl (Nat.le_of_ble_eq_true rfl) dX6_sign_22 rfl rfl hk (Nat.zero_add _) (fun v9 M7 H locs hP S hk => ?_) (fun E q ce M9 H9 locs9 hX => hX.elim)
    obtain ⟨v8, rfl, h⟩ := hP
    refine W.eq (g2 := F0 m 25 ls [.int v8]) rfl ?_
    refine lv_goto (tgt := 29) hx hb dX6_sign_25 (by decide) ?_
    exact j29 _ _ _ _ _ _ _ hk S (lv_sub hl [] rfl) h
/-! X6_isAtItem: level 15 -/
def wb_X6_isAtItem_24 (G : mG) (P : Int32 → mM → Prop) (r : Nat) (M : mM) (s0 : Int32) : Prop :=
  narrow .boolean (.int s0) = .int s0 ∧ P s0 M
def wb_X6_isAtItem_23 (G : mG) (P : Int32 → mM → Prop) (r : Nat) (M : mM) : Prop :=
  wb_X6_isAtItem_24 G P r M 0
def wp_X6_isAtItem (G : mG) (b : Nat) (P : Int32 → mM → Prop) (M : mM) (a0 : Nat) : Prop :=
  isc M a0 5 ∧ (wp_X6_sign G 0 (fun v2 M1 => (v2 = 0 → wb_X6_isAtItem_23 G P b M1) ∧ (¬ v2 = 0 → isc M1 a0 5 ∧ (wp_X6_sign G 0 (fun v4 M3 => isc M3 (G.2.2 2) 18 ∧ (wp_J5_indexOf G 0 (fun v6 M5 => (v6 < 0 → wb_X6_isAtItem_23 G P b M5) ∧ (¬ v6 < 0 → wb_X6_isAtItem_24 G P b M5 1)) M3 (G.2.2 2) v4)) M1 a0))) M a0)
set_option maxHeartbeats 4000000 in
set_option maxRecDepth 100000 in
theorem wk_X6_isAtItem {l : Launch} (hst0 : l.stackTraces = false) {G : mG} {b : Nat} {P : Int32 → mM → Prop} {M : mM} {a0 : Nat} (h : wp_X6_isAtItem G b P M a0) : mMet l yX6_isAtItem (ws_ yX6_isAtItem cX6_isAtItem 1 (Option.some Jvm.ClassFile.FieldType.boolean)) 15 b G [.ref a0] M (mRi P) (fun _ _ _ => False) := by
  refine mm_met hst0 (by decide) (Nat.le_of_ble_eq_true rfl) ?_
  intro p e s m args below meth c ls C hr hnt hnm hl S
  have hl : lv_has ls 1 [(0, .ref a0)] := hl
  generalize mA M s.heap.size = A at C S ⊢
  have hx := C.hx
  have hb := C.hb
  have hk : 0 + b ≤ b := Nat.le_of_eq (Nat.zero_add b)
  have j24 : ∀ (k r : Nat) (M : mM) (H : Heap) (locs : List Loc) (ls : Array Slot) (s0 : Int32), k + r ≤ b → mW G A s M H locs → lv_has ls 1 [] → wb_X6_isAtItem_24 G P r M s0 → W p l e (mRm 15 b) s m args below meth c H locs k k (vx_MQ below (mQ G A (mRi P)) (mXC G A (fun _ _ _ => False)) args s b b A) (F0 m 24 ls [.int s0]) := by
    intro k r M H locs ls s0 hk S hl h
    unfold wb_X6_isAtItem_24 at h
    exact mm_zret C S hr (Nat.le_trans (Nat.le_add_right _ _) hk) dX6_isAtItem_24 h
  have j23 : ∀ (k r : Nat) (M : mM) (H : Heap) (locs : List Loc) (ls : Array Slot), k + r ≤ b → mW G A s M H locs → lv_has ls 1 [] → wb_X6_isAtItem_23 G P r M → W p l e (mRm 15 b) s m args below meth c H locs k k (vx_MQ below (mQ G A (mRi P)) (mXC G A (fun _ _ _ => False)) args s b b A) (F0 m 23 ls []) := by
    intro k r M H locs ls  hk S hl h
    unfold wb_X6_isAtItem_23 at h
    refine lv_iconst (v := 0) hx hb dX6_isAtItem_23 (by decide) ?_
    exact j24 _ _ _ _ _ _ _ hk S hl h
  unfold wp_X6_isAtItem at h
  refine lv_aload_n hx hb dX6_isAtItem_0 rfl (lv_at hl 0 rfl) ?_
  obtain ⟨hI, h⟩ := h
  refine mm_V (As := []) (rest := []) C S hl.1 (wk_X6_sign hst0 h) (T := TX6) rfl hI (lw_V q1147 q1149 qs14 q74 q1150) rfl pd_X6_sign ⟨Nat.le_of_ble_eq_true rfl, Nat.le_of_ble_eq_true rfl⟩ rfl rfl (Nat.le_of_ble_eq_true rfl) dX6_isAtItem_1 rfl rfl hk (Nat.zero_add _) (fun v9 M1 H locs hP S hk => ?_) (fun E q ce M9 H9 locs9 hX => hX.elim)
  obtain ⟨v2, rfl, h⟩ := hP
  refine W.eq (g2 := F0 m 4 ls [.int v2]) rfl ?_
  refine lv_if_eq (tgt := 23) hx hb dX6_isAtItem_4 (by decide) (fun c9 => ?_) (fun c9 => ?_)
  · have h := h.1 c9
    exact j23 _ _ _ _ _ _ hk S (lv_sub hl [] rfl) h
  · have h := h.2 c9
    refine mm_ldcS C C.kt.2.2.2.2.2.2.1 dX6_isAtItem_7 ?_
    refine lv_aload_n hx hb dX6_isAtItem_9 rfl (lv_at hl 0 rfl) ?_
    obtain ⟨hI, h⟩ := h
    refine mm_V (As := []) (rest := [.ref (G.2.2 2)]) C S hl.1 (wk_X6_sign hst0 h) (T := TX6) rfl hI (lw_V q1147 q1149 qs14 q74 q1150) rfl pd_X6_sign ⟨Nat.le_of_ble_eq_true rfl, Nat.le_of_ble_eq_true rfl⟩ rfl rfl (Nat.le_of_ble_eq_true rfl) dX6_isAtItem_10 rfl rfl hk (Nat.zero_add _) (fun v9 M3 H locs hP S hk => ?_) (fun E q ce M9 H9 locs9 hX => hX.elim)
    obtain ⟨v4, rfl, h⟩ := hP
    refine W.eq (g2 := F0 m 13 ls [.int v4, .ref (G.2.2 2)]) rfl ?_
    obtain ⟨hI, h⟩ := h
    refine mm_V (As := [.int v4]) (rest := []) C S hl.1 (wk_J5_indexOf hst0 h) (T := TJ5) rfl hI (lw_V q1154 q1155 q1156 q54 q1157) rfl pd_J5_indexOf ⟨Nat.le_of_ble_eq_true rfl, Nat.le_of_ble_eq_true rfl⟩ rfl rfl (Nat.le_of_ble_eq_true rfl) dX6_isAtItem_13 rfl rfl hk (Nat.zero_add _) (fun v9 M5 H locs hP S hk => ?_) (fun E q ce M9 H9 locs9 hX => hX.elim)
    obtain ⟨v6, rfl, h⟩ := hP
    refine W.eq (g2 := F0 m 16 ls [.int v6]) rfl ?_
    refine lv_if_lt (tgt := 23) hx hb dX6_isAtItem_16 (by decide) (fun c9 => ?_) (fun c9 => ?_)
    · have h := h.1 c9
      exact j23 _ _ _ _ _ _ hk S (lv_sub hl [] rfl) h
    · have h := h.2 c9
      refine lv_iconst (v := 1) hx hb dX6_isAtItem_19 (by decide) ?_
      refine lv_goto (tgt := 24) hx hb dX6_isAtItem_20 (by decide) ?_
      exact j24 _ _ _ _ _ _ _ hk S (lv_sub hl [] rfl) h
