/-! X4_walk: level 12 -/
def wb_X4_walk_97 (G : mG) (P : Int32 → mM → Prop) (K64 : Nat → mM → Nat → Int32 → Int32 → Int32 → Int32 → Int32 → Prop) (r : Nat) (M : mM) (a0 : Nat) (x1 : Int32) (x2 : Int32) (x3 : Int32) (x4 : Int32) (x5 : Int32) : Prop :=
  K64 r M a0 x1 x2 x3 x4 (x5 + 1)
def wl_X4_walk_64 (G : mG) (P : Int32 → mM → Prop) : Nat → Nat → mM → Nat → Int32 → Int32 → Int32 → Int32 → Int32 → Prop
  | 0, _, _, _, _, _, _, _, _ => False
  | n + 1, r, M, a0, x1, x2, x3, x4, x5 => gfi M a0 3 28 fun v10 => (v10 ≤ x5 → isc M a0 3 ∧ (wp_X4_fails G 0 (fun v12 M11 => (v12 = 0 → gfa M11 a0 3 30 fun u13 => gfi M11 a0 3 28 fun v14 => sti M11 0 u13 v14 x1 fun M15 => gfa M15 a0 3 31 fun u16 => gfi M15 a0 3 28 fun v17 => sti M15 0 u16 v17 x2 fun M18 => gfa M18 a0 3 32 fun u19 => gfi M18 a0 3 28 fun v20 => sti M18 0 u19 v20 x3 fun M21 => gfa M21 a0 3 33 fun u22 => gfi M21 a0 3 28 fun v23 => gfi M21 a0 3 2 fun v24 => sti M21 0 u22 v23 v24 fun M25 => gfi M25 a0 3 28 fun v26 => pfi M25 a0 3 28 (v26 + 1) fun M27 => P v26 M27) ∧ (¬ v12 = 0 → P 0 M11)) M a0 0 0 x4)) ∧ (¬ v10 ≤ x5 → gfa M a0 3 30 fun u28 => ldi M 0 u28 x5 fun v29 => (¬ v29 = x1 → wb_X4_walk_97 G P (wl_X4_walk_64 G P n) r M a0 x1 x2 x3 x4 x5) ∧ (v29 = x1 → gfa M a0 3 34 fun u30 => ldi M 0 u30 x5 fun v31 => (¬ v31 = 0 → wb_X4_walk_97 G P (wl_X4_walk_64 G P n) r M a0 x1 x2 x3 x4 x5) ∧ (v31 = 0 → wb_X4_walk_97 G P (wl_X4_walk_64 G P n) r M a0 x1 x2 x3 1 x5)))
def wb_X4_walk_59 (G : mG) (P : Int32 → mM → Prop) (r : Nat) (M : mM) (a0 : Nat) (x1 : Int32) (x2 : Int32) (x3 : Int32) (s0 : Int32) : Prop :=
  ∃ n64, wl_X4_walk_64 G P n64 r M a0 x1 x2 x3 s0 0
def wb_X4_walk_36 (G : mG) (P : Int32 → mM → Prop) (r : Nat) (M : mM) (a0 : Nat) (x1 : Int32) (x2 : Int32) (x3 : Int32) (s0 : Nat) (s1 : Int32) (s2 : Int32) : Prop :=
  isc M s0 3 ∧ (wp_X4_fails G 0 (fun v8 M7 => (v8 = 0 → gfi M7 a0 3 28 fun v9 => (¬ v9 = 40 → wb_X4_walk_59 G P r M7 a0 x1 x2 x3 0) ∧ (v9 = 40 → wb_X4_walk_59 G P r M7 a0 x1 x2 x3 1)) ∧ (¬ v8 = 0 → P 0 M7)) M s0 s1 s2 0)
def wb_X4_walk_22 (G : mG) (P : Int32 → mM → Prop) (r : Nat) (M : mM) (a0 : Nat) (x1 : Int32) (x2 : Int32) (x3 : Int32) (s0 : Nat) (s1 : Int32) : Prop :=
  wp_X4_isIn G 0 (fun v6 M5 => (¬ v6 = 0 → wb_X4_walk_36 G P r M5 a0 x1 x2 x3 s0 s1 0) ∧ (v6 = 0 → wb_X4_walk_36 G P r M5 a0 x1 x2 x3 s0 s1 1)) M x3 0 3
def wb_X4_walk_17 (G : mG) (P : Int32 → mM → Prop) (r : Nat) (M : mM) (a0 : Nat) (x1 : Int32) (x2 : Int32) (x3 : Int32) (s0 : Nat) : Prop :=
  wb_X4_walk_22 G P r M a0 x1 x2 x3 s0 1
def wp_X4_walk (G : mG) (b : Nat) (P : Int32 → mM → Prop) (M : mM) (a0 : Nat) (x1 : Int32) (x2 : Int32) (x3 : Int32) : Prop :=
  isc M a0 3 ∧ (wp_X4_noWalker G 0 (fun v2 M1 => (¬ v2 = 0 → wb_X4_walk_17 G P b M1 a0 x1 x2 x3 a0) ∧ (v2 = 0 → isc M1 a0 3 ∧ (wp_X4_noRoute G 0 (fun v4 M3 => (v4 = 0 → wb_X4_walk_22 G P b M3 a0 x1 x2 x3 a0 0) ∧ (¬ v4 = 0 → wb_X4_walk_17 G P b M3 a0 x1 x2 x3 a0)) M1 a0 x2))) M a0 x1)
set_option maxHeartbeats 4000000 in
set_option maxRecDepth 100000 in
theorem wk_X4_walk {l : Launch} (hst0 : l.stackTraces = false) {G : mG} {b : Nat} {P : Int32 → mM → Prop} {M : mM} {a0 : Nat} {x1 : Int32} {x2 : Int32} {x3 : Int32} (h : wp_X4_walk G b P M a0 x1 x2 x3) : mMet l yX4_walk (ws_ yX4_walk cX4_walk 6 (Option.some Jvm.ClassFile.FieldType.int)) 12 b G [.ref a0, .int x1, .int x2, .int x3] M (mRi P) (fun _ _ _ => False) := by
  refine mm_met hst0 (by decide) (Nat.le_of_ble_eq_true rfl) ?_
  intro p e s m args below meth c ls C hr hnt hnm hl S
  have hl : lv_has ls 6 [(0, .ref a0), (1, .int x1), (2, .int x2), (3, .int x3)] := hl
  generalize mA M s.heap.size = A at C S ⊢
  have hx := C.hx
  have hb := C.hb
  have hk : 0 + b ≤ b := Nat.le_of_eq (Nat.zero_add b)
  have j64 : ∀ (nf : Nat) (k r : Nat) (M : mM) (H : Heap) (locs : List Loc) (ls : Array Slot) (a0 : Nat) (x1 : Int32) (x2 : Int32) (x3 : Int32) (x4 : Int32) (x5 : Int32), k + r ≤ b → mW G A s M H locs → lv_has ls 6 [(0, .ref a0), (1, .int x1), (2, .int x2), (3, .int x3), (4, .int x4), (5, .int x5)] → wl_X4_walk_64 G P nf r M a0 x1 x2 x3 x4 x5 → W p l e (mRm 12 b) s m args below meth c H locs k k (vx_MQ below (mQ G A (mRi P)) (mXC G A (fun _ _ _ => False)) args s b b A) (F0 m 64 ls []) := by
    intro nf
    induction nf with
    | zero =>
      intro k r M H locs ls a0 x1 x2 x3 x4 x5 hk S hl h
      rw [wl_X4_walk_64] at h
      exact h.elim
    | succ n64 ih64 =>
      have j97 : ∀ (k r : Nat) (M : mM) (H : Heap) (locs : List Loc) (ls : Array Slot) (a0 : Nat) (x1 : Int32) (x2 : Int32) (x3 : Int32) (x4 : Int32) (x5 : Int32), k + r ≤ b → mW G A s M H locs → lv_has ls 6 [(0, .ref a0), (1, .int x1), (2, .int x2), (3, .int x3), (4, .int x4), (5, .int x5)] → wb_X4_walk_97 G P (wl_X4_walk_64 G P n64) r M a0 x1 x2 x3 x4 x5 → W p l e (mRm 12 b) s m args below meth c H locs k k (vx_MQ below (mQ G A (mRi P)) (mXC G A (fun _ _ _ => False)) args s b b A) (F0 m 97 ls []) := by
        intro k r M H locs ls a0 x1 x2 x3 x4 x5 hk S hl h
        unfold wb_X4_walk_97 at h
        refine lv_iinc (v := (x5 + 1)) (lv' := [(5, .int (x5 + 1)), (0, .ref a0), (1, .int x1), (2, .int x2), (3, .int x3), (4, .int x4)]) hx hb dX4_walk_97 hl (k := 5) rfl rfl (by decide) rfl (fun ls hl => ?_)
        refine lv_goto (tgt := 64) hx hb dX4_walk_100 (by decide) ?_
        exact ih64 _ _ _ _ _ _ _ _ _ _ _ _ hk S (lv_sub hl [1, 2, 3, 4, 5, 0] rfl) h
      intro k r M H locs ls a0 x1 x2 x3 x4 x5 hk S hl h
      rw [wl_X4_walk_64] at h
      refine lv_iload hx hb dX4_walk_64 (lv_at hl 5 rfl) ?_
      refine lv_aload_n hx hb dX4_walk_66 rfl (lv_at hl 0 rfl) ?_
      refine mm_gfi C S (ci := 3) (k := 28) rfl in_X4 (by decide) q1698 (fun _ h9 => h9) dX4_walk_67 h (fun v10 h => ?_)
      refine lv_icmp_ge (tgt := 103) hx hb dX4_walk_70 (by decide) (fun c9 => ?_) (fun c9 => ?_)
      · have h := h.1 c9
        refine lv_aload_n hx hb dX4_walk_103 rfl (lv_at hl 0 rfl) ?_
        refine lv_iconst (v := 0) hx hb dX4_walk_104 (by decide) ?_
        refine lv_iconst (v := 0) hx hb dX4_walk_105 (by decide) ?_
        refine lv_iload hx hb dX4_walk_106 (lv_at hl 4 rfl) ?_
        obtain ⟨hI, h⟩ := h
        refine mm_V (As := [.int 0, .int 0, .int x4]) (rest := []) C S hl.1 (wk_X4_fails hst0 h) (T := TX4) rfl hI (lw_V q1836 q1838 qs22 q58 q1839) rfl pd_X4_fails ⟨Nat.le_of_ble_eq_true rfl, Nat.le_of_ble_eq_true rfl⟩ rfl rfl (Nat.le_of_ble_eq_true rfl) dX4_walk_108 rfl rfl hk (Nat.zero_add _) (fun v9 M11 H locs hP S hk => ?_) (fun E q ce M9 H9 locs9 hX => hX.elim)
        obtain ⟨v12, rfl, h⟩ := hP
        refine W.eq (g2 := F0 m 111 ls [.int v12]) rfl ?_
        refine lv_if_eq (tgt := 116) hx hb dX4_walk_111 (by decide) (fun c9 => ?_) (fun c9 => ?_)
        · have h := h.1 c9
          refine lv_aload_n hx hb dX4_walk_116 rfl (lv_at hl 0 rfl) ?_
          refine mm_gfa C S (ci := 3) (k := 30) rfl in_X4 (by decide) q1700 (fun _ h9 => h9) dX4_walk_117 h (fun u13 h => ?_)
          refine lv_aload_n hx hb dX4_walk_120 rfl (lv_at hl 0 rfl) ?_
          refine mm_gfi C S (ci := 3) (k := 28) rfl in_X4 (by decide) q1698 (fun _ h9 => h9) dX4_walk_121 h (fun v14 h => ?_)
          refine lv_iload_n hx hb dX4_walk_124 rfl (lv_at hl 1 rfl) ?_
          refine mm_iast C S h dX4_walk_125 (fun M15 H locs h S => ?_)
          refine lv_aload_n hx hb dX4_walk_126 rfl (lv_at hl 0 rfl) ?_
          refine mm_gfa C S (ci := 3) (k := 31) rfl in_X4 (by decide) q1701 (fun _ h9 => h9) dX4_walk_127 h (fun u16 h => ?_)
          refine lv_aload_n hx hb dX4_walk_130 rfl (lv_at hl 0 rfl) ?_
          refine mm_gfi C S (ci := 3) (k := 28) rfl in_X4 (by decide) q1698 (fun _ h9 => h9) dX4_walk_131 h (fun v17 h => ?_)
          refine lv_iload_n hx hb dX4_walk_134 rfl (lv_at hl 2 rfl) ?_
          refine mm_iast C S h dX4_walk_135 (fun M18 H locs h S => ?_)
          refine lv_aload_n hx hb dX4_walk_136 rfl (lv_at hl 0 rfl) ?_
          refine mm_gfa C S (ci := 3) (k := 32) rfl in_X4 (by decide) q1702 (fun _ h9 => h9) dX4_walk_137 h (fun u19 h => ?_)
          refine lv_aload_n hx hb dX4_walk_140 rfl (lv_at hl 0 rfl) ?_
          refine mm_gfi C S (ci := 3) (k := 28) rfl in_X4 (by decide) q1698 (fun _ h9 => h9) dX4_walk_141 h (fun v20 h => ?_)
          refine lv_iload_n hx hb dX4_walk_144 rfl (lv_at hl 3 rfl) ?_
          refine mm_iast C S h dX4_walk_145 (fun M21 H locs h S => ?_)
          refine lv_aload_n hx hb dX4_walk_146 rfl (lv_at hl 0 rfl) ?_
          refine mm_gfa C S (ci := 3) (k := 33) rfl in_X4 (by decide) q1703 (fun _ h9 => h9) dX4_walk_147 h (fun u22 h => ?_)
          refine lv_aload_n hx hb dX4_walk_150 rfl (lv_at hl 0 rfl) ?_
          refine mm_gfi C S (ci := 3) (k := 28) rfl in_X4 (by decide) q1698 (fun _ h9 => h9) dX4_walk_151 h (fun v23 h => ?_)
          refine lv_aload_n hx hb dX4_walk_154 rfl (lv_at hl 0 rfl) ?_
          refine mm_gfi C S (ci := 3) (k := 2) rfl in_X4 (by decide) q1672 (fun _ h9 => h9) dX4_walk_155 h (fun v24 h => ?_)
          refine mm_iast C S h dX4_walk_158 (fun M25 H locs h S => ?_)
          refine lv_aload_n hx hb dX4_walk_159 rfl (lv_at hl 0 rfl) ?_
          refine lv_dup hx hb dX4_walk_160 rfl ?_
          refine mm_gfi C S (ci := 3) (k := 28) rfl in_X4 (by decide) q1698 (fun _ h9 => h9) dX4_walk_161 h (fun v26 h => ?_)
          refine lv_dup_x1 hx hb dX4_walk_164 rfl rfl ?_
          refine lv_iconst (v := 1) hx hb dX4_walk_165 (by decide) ?_
          refine lv_iadd hx hb dX4_walk_166 ?_
          refine mm_pfi C S (ci := 3) (k := 28) rfl in_X4 tyX4_ok nmX4 (by decide) q1698 (fun _ h9 => h9) rfl dX4_walk_167 rfl h (fun M27 H locs h S => ?_)
          exact mm_iret C S hr (Nat.le_trans (Nat.le_add_right _ _) hk) dX4_walk_170 h
        · have h := h.2 c9
          refine lv_iconst (v := 0) hx hb dX4_walk_114 (by decide) ?_
          exact mm_iret C S hr (Nat.le_trans (Nat.le_add_right _ _) hk) dX4_walk_115 h
      · have h := h.2 c9
        refine lv_aload_n hx hb dX4_walk_73 rfl (lv_at hl 0 rfl) ?_
        refine mm_gfa C S (ci := 3) (k := 30) rfl in_X4 (by decide) q1700 (fun _ h9 => h9) dX4_walk_74 h (fun u28 h => ?_)
        refine lv_iload hx hb dX4_walk_77 (lv_at hl 5 rfl) ?_
        refine mm_iald C S h dX4_walk_79 (fun v29 h => ?_)
        refine lv_iload_n hx hb dX4_walk_80 rfl (lv_at hl 1 rfl) ?_
        refine lv_icmp_ne (tgt := 97) hx hb dX4_walk_81 (by decide) (fun c9 => ?_) (fun c9 => ?_)
        · have h := h.1 c9
          exact j97 _ _ _ _ _ _ _ _ _ _ _ _ hk S hl h
        · have h := h.2 c9
          refine lv_aload_n hx hb dX4_walk_84 rfl (lv_at hl 0 rfl) ?_
          refine mm_gfa C S (ci := 3) (k := 34) rfl in_X4 (by decide) q1704 (fun _ h9 => h9) dX4_walk_85 h (fun u30 h => ?_)
          refine lv_iload hx hb dX4_walk_88 (lv_at hl 5 rfl) ?_
          refine mm_iald C S h dX4_walk_90 (fun v31 h => ?_)
          refine lv_if_ne (tgt := 97) hx hb dX4_walk_91 (by decide) (fun c9 => ?_) (fun c9 => ?_)
          · have h := h.1 c9
            exact j97 _ _ _ _ _ _ _ _ _ _ _ _ hk S hl h
          · have h := h.2 c9
            refine lv_iconst (v := 1) hx hb dX4_walk_94 (by decide) ?_
            refine lv_istore (lv' := [(4, .int 1), (0, .ref a0), (1, .int x1), (2, .int x2), (3, .int x3), (5, .int x5)]) hx hb dX4_walk_95 hl (by decide) rfl (fun ls hl => ?_)
            exact j97 _ _ _ _ _ _ _ _ _ _ _ _ hk S (lv_sub hl [1, 2, 3, 4, 0, 5] rfl) h
  have j59 : ∀ (k r : Nat) (M : mM) (H : Heap) (locs : List Loc) (ls : Array Slot) (a0 : Nat) (x1 : Int32) (x2 : Int32) (x3 : Int32) (s0 : Int32), k + r ≤ b → mW G A s M H locs → lv_has ls 6 [(0, .ref a0), (1, .int x1), (2, .int x2), (3, .int x3)] → wb_X4_walk_59 G P r M a0 x1 x2 x3 s0 → W p l e (mRm 12 b) s m args below meth c H locs k k (vx_MQ below (mQ G A (mRi P)) (mXC G A (fun _ _ _ => False)) args s b b A) (F0 m 59 ls [.int s0]) := by
    intro k r M H locs ls a0 x1 x2 x3 s0 hk S hl h
    unfold wb_X4_walk_59 at h
    refine lv_istore (lv' := [(4, .int s0), (0, .ref a0), (1, .int x1), (2, .int x2), (3, .int x3)]) hx hb dX4_walk_59 hl (by decide) rfl (fun ls hl => ?_)
    refine lv_iconst (v := 0) hx hb dX4_walk_61 (by decide) ?_
    refine lv_istore (lv' := [(5, .int 0), (4, .int s0), (0, .ref a0), (1, .int x1), (2, .int x2), (3, .int x3)]) hx hb dX4_walk_62 hl (by decide) rfl (fun ls hl => ?_)
    obtain ⟨nf, h⟩ := h
    exact j64 nf _ _ _ _ _ _ _ _ _ _ _ _ hk S (lv_sub hl [2, 3, 4, 5, 1, 0] rfl) h
  have j36 : ∀ (k r : Nat) (M : mM) (H : Heap) (locs : List Loc) (ls : Array Slot) (a0 : Nat) (x1 : Int32) (x2 : Int32) (x3 : Int32) (s0 : Nat) (s1 : Int32) (s2 : Int32), k + r ≤ b → mW G A s M H locs → lv_has ls 6 [(0, .ref a0), (1, .int x1), (2, .int x2), (3, .int x3)] → wb_X4_walk_36 G P r M a0 x1 x2 x3 s0 s1 s2 → W p l e (mRm 12 b) s m args below meth c H locs k k (vx_MQ below (mQ G A (mRi P)) (mXC G A (fun _ _ _ => False)) args s b b A) (F0 m 36 ls [.int s2, .int s1, .ref s0]) := by
    intro k r M H locs ls a0 x1 x2 x3 s0 s1 s2 hk S hl h
    unfold wb_X4_walk_36 at h
    refine lv_iconst (v := 0) hx hb dX4_walk_36 (by decide) ?_
    obtain ⟨hI, h⟩ := h
    refine mm_V (As := [.int s1, .int s2, .int 0]) (rest := []) C S hl.1 (wk_X4_fails hst0 h) (T := TX4) rfl hI (lw_V q1836 q1838 qs22 q58 q1839) rfl pd_X4_fails ⟨Nat.le_of_ble_eq_true rfl, Nat.le_of_ble_eq_true rfl⟩ rfl rfl (Nat.le_of_ble_eq_true rfl) dX4_walk_37 rfl rfl hk (Nat.zero_add _) (fun v9 M7 H locs hP S hk => ?_) (fun E q ce M9 H9 locs9 hX => hX.elim)
    obtain ⟨v8, rfl, h⟩ := hP
    refine W.eq (g2 := F0 m 40 ls [.int v8]) rfl ?_
    refine lv_if_eq (tgt := 45) hx hb dX4_walk_40 (by decide) (fun c9 => ?_) (fun c9 => ?_)
    · have h := h.1 c9
      refine lv_aload_n hx hb dX4_walk_45 rfl (lv_at hl 0 rfl) ?_
      refine mm_gfi C S (ci := 3) (k := 28) rfl in_X4 (by decide) q1698 (fun _ h9 => h9) dX4_walk_46 h (fun v9 h => ?_)
      refine lv_bipush (v := 40) hx hb dX4_walk_49 (by decide) ?_
      refine lv_icmp_ne (tgt := 58) hx hb dX4_walk_51 (by decide) (fun c9 => ?_) (fun c9 => ?_)
      · have h := h.1 c9
        refine lv_iconst (v := 0) hx hb dX4_walk_58 (by decide) ?_
        exact j59 _ _ _ _ _ _ _ _ _ _ _ hk S hl h
      · have h := h.2 c9
        refine lv_iconst (v := 1) hx hb dX4_walk_54 (by decide) ?_
        refine lv_goto (tgt := 59) hx hb dX4_walk_55 (by decide) ?_
        exact j59 _ _ _ _ _ _ _ _ _ _ _ hk S hl h
    · have h := h.2 c9
      refine lv_iconst (v := 0) hx hb dX4_walk_43 (by decide) ?_
      exact mm_iret C S hr (Nat.le_trans (Nat.le_add_right _ _) hk) dX4_walk_44 h
  have j22 : ∀ (k r : Nat) (M : mM) (H : Heap) (locs : List Loc) (ls : Array Slot) (a0 : Nat) (x1 : Int32) (x2 : Int32) (x3 : Int32) (s0 : Nat) (s1 : Int32), k + r ≤ b → mW G A s M H locs → lv_has ls 6 [(0, .ref a0), (1, .int x1), (2, .int x2), (3, .int x3)] → wb_X4_walk_22 G P r M a0 x1 x2 x3 s0 s1 → W p l e (mRm 12 b) s m args below meth c H locs k k (vx_MQ below (mQ G A (mRi P)) (mXC G A (fun _ _ _ => False)) args s b b A) (F0 m 22 ls [.int s1, .ref s0]) := by
    intro k r M H locs ls a0 x1 x2 x3 s0 s1 hk S hl h
    unfold wb_X4_walk_22 at h
    refine lv_iload_n hx hb dX4_walk_22 rfl (lv_at hl 3 rfl) ?_
    refine lv_iconst (v := 0) hx hb dX4_walk_23 (by decide) ?_
    refine lv_iconst (v := 3) hx hb dX4_walk_24 (by decide) ?_
    refine mm_S (As := [.int x3, .int 0, .int 3]) (rest := [.int s1, .ref s0]) C S hl.1 (wk_X4_isIn hst0 h) (lw_S q1830 q1831 q58 q1832) pd_X4_isIn ⟨Nat.le_of_ble_eq_true rfl, Nat.le_of_ble_eq_true rfl⟩ rfl rfl (Nat.le_of_ble_eq_true rfl) dX4_walk_25 rfl rfl hk (Nat.zero_add _) (fun v9 M5 H locs hP S hk => ?_) (fun E q ce M9 H9 locs9 hX => hX.elim)
    obtain ⟨v6, rfl, h⟩ := hP
    refine W.eq (g2 := F0 m 28 ls [.int v6, .int s1, .ref s0]) rfl ?_
    refine lv_if_ne (tgt := 35) hx hb dX4_walk_28 (by decide) (fun c9 => ?_) (fun c9 => ?_)
    · have h := h.1 c9
      refine lv_iconst (v := 0) hx hb dX4_walk_35 (by decide) ?_
      exact j36 _ _ _ _ _ _ _ _ _ _ _ _ _ hk S hl h
    · have h := h.2 c9
      refine lv_iconst (v := 1) hx hb dX4_walk_31 (by decide) ?_
      refine lv_goto (tgt := 36) hx hb dX4_walk_32 (by decide) ?_
      exact j36 _ _ _ _ _ _ _ _ _ _ _ _ _ hk S hl h
  have j17 : ∀ (k r : Nat) (M : mM) (H : Heap) (locs : List Loc) (ls : Array Slot) (a0 : Nat) (x1 : Int32) (x2 : Int32) (x3 : Int32) (s0 : Nat), k + r ≤ b → mW G A s M H locs → lv_has ls 6 [(0, .ref a0), (1, .int x1), (2, .int x2), (3, .int x3)] → wb_X4_walk_17 G P r M a0 x1 x2 x3 s0 → W p l e (mRm 12 b) s m args below meth c H locs k k (vx_MQ below (mQ G A (mRi P)) (mXC G A (fun _ _ _ => False)) args s b b A) (F0 m 17 ls [.ref s0]) := by
    intro k r M H locs ls a0 x1 x2 x3 s0 hk S hl h
    unfold wb_X4_walk_17 at h
    refine lv_iconst (v := 1) hx hb dX4_walk_17 (by decide) ?_
    refine lv_goto (tgt := 22) hx hb dX4_walk_18 (by decide) ?_
    exact j22 _ _ _ _ _ _ _ _ _ _ _ _ hk S hl h
  unfold wp_X4_walk at h
  refine lv_aload_n hx hb dX4_walk_0 rfl (lv_at hl 0 rfl) ?_
  refine lv_aload_n hx hb dX4_walk_1 rfl (lv_at hl 0 rfl) ?_
  refine lv_iload_n hx hb dX4_walk_2 rfl (lv_at hl 1 rfl) ?_
  obtain ⟨hI, h⟩ := h
  refine mm_V (As := [.int x1]) (rest := [.ref a0]) C S hl.1 (wk_X4_noWalker hst0 h) (T := TX4) rfl hI (lw_V q1989 q1991 qs40 q58 q1992) rfl pd_X4_noWalker ⟨Nat.le_of_ble_eq_true rfl, Nat.le_of_ble_eq_true rfl⟩ rfl rfl (Nat.le_of_ble_eq_true rfl) dX4_walk_3 rfl rfl hk (Nat.zero_add _) (fun v9 M1 H locs hP S hk => ?_) (fun E q ce M9 H9 locs9 hX => hX.elim)
  obtain ⟨v2, rfl, h⟩ := hP
  refine W.eq (g2 := F0 m 6 ls [.int v2, .ref a0]) rfl ?_
  refine lv_if_ne (tgt := 17) hx hb dX4_walk_6 (by decide) (fun c9 => ?_) (fun c9 => ?_)
  · have h := h.1 c9
    exact j17 _ _ _ _ _ _ _ _ _ _ _ hk S hl h
  · have h := h.2 c9
    refine lv_aload_n hx hb dX4_walk_9 rfl (lv_at hl 0 rfl) ?_
    refine lv_iload_n hx hb dX4_walk_10 rfl (lv_at hl 2 rfl) ?_
    obtain ⟨hI, h⟩ := h
    refine mm_V (As := [.int x2]) (rest := [.ref a0]) C S hl.1 (wk_X4_noRoute hst0 h) (T := TX4) rfl hI (lw_V q1945 q1947 qs35 q58 q1948) rfl pd_X4_noRoute ⟨Nat.le_of_ble_eq_true rfl, Nat.le_of_ble_eq_true rfl⟩ rfl rfl (Nat.le_of_ble_eq_true rfl) dX4_walk_11 rfl rfl hk (Nat.zero_add _) (fun v9 M3 H locs hP S hk => ?_) (fun E q ce M9 H9 locs9 hX => hX.elim)
    obtain ⟨v4, rfl, h⟩ := hP
    refine W.eq (g2 := F0 m 14 ls [.int v4, .ref a0]) rfl ?_
    refine lv_if_eq (tgt := 21) hx hb dX4_walk_14 (by decide) (fun c9 => ?_) (fun c9 => ?_)
    · have h := h.1 c9
      refine lv_iconst (v := 0) hx hb dX4_walk_21 (by decide) ?_
      exact j22 _ _ _ _ _ _ _ _ _ _ _ _ hk S hl h
    · have h := h.2 c9
      exact j17 _ _ _ _ _ _ _ _ _ _ _ hk S hl h
/-! X4_walkAt: level 12 -/
def wb_X4_walkAt_104 (G : mG) (P : Int32 → mM → Prop) (r : Nat) (M : mM) (s0 : Int32) : Prop :=
  P s0 M
def wb_X4_walkAt_20 (G : mG) (P : Int32 → mM → Prop) (r : Nat) (M : mM) (a0 : Nat) (x1 : Int32) (x2 : Int32) (s0 : Nat) (s1 : Int32) (s2 : Int32) : Prop :=
  isc M s0 3 ∧ (wp_X4_fails G 0 (fun v6 M5 => (v6 = 0 → (¬ x2 = 0 → (¬ x2 = 1 → (¬ x2 = 2 → (¬ x2 = 3 → (¬ x2 = 4 → gfa M5 a0 3 35 fun u7 => ldi M5 0 u7 x1 fun v8 => wb_X4_walkAt_104 G P r M5 v8) ∧ (x2 = 4 → gfa M5 a0 3 33 fun u9 => ldi M5 0 u9 x1 fun v10 => wb_X4_walkAt_104 G P r M5 v10)) ∧ (x2 = 3 → gfa M5 a0 3 32 fun u11 => ldi M5 0 u11 x1 fun v12 => wb_X4_walkAt_104 G P r M5 v12)) ∧ (x2 = 2 → gfa M5 a0 3 31 fun u13 => ldi M5 0 u13 x1 fun v14 => wb_X4_walkAt_104 G P r M5 v14)) ∧ (x2 = 1 → gfa M5 a0 3 30 fun u15 => ldi M5 0 u15 x1 fun v16 => wb_X4_walkAt_104 G P r M5 v16)) ∧ (x2 = 0 → gfa M5 a0 3 34 fun u17 => ldi M5 0 u17 x1 fun v18 => wb_X4_walkAt_104 G P r M5 v18)) ∧ (¬ v6 = 0 → P 0 M5)) M s0 s1 s2 0)
def wp_X4_walkAt (G : mG) (b : Nat) (P : Int32 → mM → Prop) (M : mM) (a0 : Nat) (x1 : Int32) (x2 : Int32) : Prop :=
  isc M a0 3 ∧ (wp_X4_noWalk G 0 (fun v2 M1 => wp_X4_isIn G 0 (fun v4 M3 => (¬ v4 = 0 → wb_X4_walkAt_20 G P b M3 a0 x1 x2 a0 v2 0) ∧ (v4 = 0 → wb_X4_walkAt_20 G P b M3 a0 x1 x2 a0 v2 1)) M1 x2 0 5) M a0 x1)
set_option maxHeartbeats 4000000 in
set_option maxRecDepth 100000 in
theorem wk_X4_walkAt {l : Launch} (hst0 : l.stackTraces = false) {G : mG} {b : Nat} {P : Int32 → mM → Prop} {M : mM} {a0 : Nat} {x1 : Int32} {x2 : Int32} (h : wp_X4_walkAt G b P M a0 x1 x2) : mMet l yX4_walkAt (ws_ yX4_walkAt cX4_walkAt 3 (Option.some Jvm.ClassFile.FieldType.int)) 12 b G [.ref a0, .int x1, .int x2] M (mRi P) (fun _ _ _ => False) := by
  refine mm_met hst0 (by decide) (Nat.le_of_ble_eq_true rfl) ?_
  intro p e s m args below meth c ls C hr hnt hnm hl S
  have hl : lv_has ls 3 [(0, .ref a0), (1, .int x1), (2, .int x2)] := hl
  generalize mA M s.heap.size = A at C S ⊢
  have hx := C.hx
  have hb := C.hb
  have hk : 0 + b ≤ b := Nat.le_of_eq (Nat.zero_add b)
  have j104 : ∀ (k r : Nat) (M : mM) (H : Heap) (locs : List Loc) (ls : Array Slot) (s0 : Int32), k + r ≤ b → mW G A s M H locs → lv_has ls 3 [] → wb_X4_walkAt_104 G P r M s0 → W p l e (mRm 12 b) s m args below meth c H locs k k (vx_MQ below (mQ G A (mRi P)) (mXC G A (fun _ _ _ => False)) args s b b A) (F0 m 104 ls [.int s0]) := by
    intro k r M H locs ls s0 hk S hl h
    unfold wb_X4_walkAt_104 at h
    exact mm_iret C S hr (Nat.le_trans (Nat.le_add_right _ _) hk) dX4_walkAt_104 h
  have j20 : ∀ (k r : Nat) (M : mM) (H : Heap) (locs : List Loc) (ls : Array Slot) (a0 : Nat) (x1 : Int32) (x2 : Int32) (s0 : Nat) (s1 : Int32) (s2 : Int32), k + r ≤ b → mW G A s M H locs → lv_has ls 3 [(0, .ref a0), (1, .int x1), (2, .int x2)] → wb_X4_walkAt_20 G P r M a0 x1 x2 s0 s1 s2 → W p l e (mRm 12 b) s m args below meth c H locs k k (vx_MQ below (mQ G A (mRi P)) (mXC G A (fun _ _ _ => False)) args s b b A) (F0 m 20 ls [.int s2, .int s1, .ref s0]) := by
    intro k r M H locs ls a0 x1 x2 s0 s1 s2 hk S hl h
    unfold wb_X4_walkAt_20 at h
    refine lv_iconst (v := 0) hx hb dX4_walkAt_20 (by decide) ?_
    obtain ⟨hI, h⟩ := h
    refine mm_V (As := [.int s1, .int s2, .int 0]) (rest := []) C S hl.1 (wk_X4_fails hst0 h) (T := TX4) rfl hI (lw_V q1836 q1838 qs22 q58 q1839) rfl pd_X4_fails ⟨Nat.le_of_ble_eq_true rfl, Nat.le_of_ble_eq_true rfl⟩ rfl rfl (Nat.le_of_ble_eq_true rfl) dX4_walkAt_21 rfl rfl hk (Nat.zero_add _) (fun v9 M5 H locs hP S hk => ?_) (fun E q ce M9 H9 locs9 hX => hX.elim)
    obtain ⟨v6, rfl, h⟩ := hP
    refine W.eq (g2 := F0 m 24 ls [.int v6]) rfl ?_
    refine lv_if_eq (tgt := 29) hx hb dX4_walkAt_24 (by decide) (fun c9 => ?_) (fun c9 => ?_)
    · have h := h.1 c9
      refine lv_iload_n hx hb dX4_walkAt_29 rfl (lv_at hl 2 rfl) ?_
      refine lv_if_ne (tgt := 42) hx hb dX4_walkAt_30 (by decide) (fun c9 => ?_) (fun c9 => ?_)
      · have h := h.1 c9
        refine lv_iload_n hx hb dX4_walkAt_42 rfl (lv_at hl 2 rfl) ?_
        refine lv_iconst (v := 1) hx hb dX4_walkAt_43 (by decide) ?_
        refine lv_icmp_ne (tgt := 56) hx hb dX4_walkAt_44 (by decide) (fun c9 => ?_) (fun c9 => ?_)
        · have h := h.1 c9
          refine lv_iload_n hx hb dX4_walkAt_56 rfl (lv_at hl 2 rfl) ?_
          refine lv_iconst (v := 2) hx hb dX4_walkAt_57 (by decide) ?_
          refine lv_icmp_ne (tgt := 70) hx hb dX4_walkAt_58 (by decide) (fun c9 => ?_) (fun c9 => ?_)
          · have h := h.1 c9
            refine lv_iload_n hx hb dX4_walkAt_70 rfl (lv_at hl 2 rfl) ?_
            refine lv_iconst (v := 3) hx hb dX4_walkAt_71 (by decide) ?_
            refine lv_icmp_ne (tgt := 84) hx hb dX4_walkAt_72 (by decide) (fun c9 => ?_) (fun c9 => ?_)
            · have h := h.1 c9
              refine lv_iload_n hx hb dX4_walkAt_84 rfl (lv_at hl 2 rfl) ?_
              refine lv_iconst (v := 4) hx hb dX4_walkAt_85 (by decide) ?_
              refine lv_icmp_ne (tgt := 98) hx hb dX4_walkAt_86 (by decide) (fun c9 => ?_) (fun c9 => ?_)
              · have h := h.1 c9
                refine lv_aload_n hx hb dX4_walkAt_98 rfl (lv_at hl 0 rfl) ?_
                refine mm_gfa C S (ci := 3) (k := 35) rfl in_X4 (by decide) q1705 (fun _ h9 => h9) dX4_walkAt_99 h (fun u7 h => ?_)
                refine lv_iload_n hx hb dX4_walkAt_102 rfl (lv_at hl 1 rfl) ?_
                refine mm_iald C S h dX4_walkAt_103 (fun v8 h => ?_)
                exact j104 _ _ _ _ _ _ _ hk S (lv_sub hl [] rfl) h
              · have h := h.2 c9
                refine lv_aload_n hx hb dX4_walkAt_89 rfl (lv_at hl 0 rfl) ?_
                refine mm_gfa C S (ci := 3) (k := 33) rfl in_X4 (by decide) q1703 (fun _ h9 => h9) dX4_walkAt_90 h (fun u9 h => ?_)
                refine lv_iload_n hx hb dX4_walkAt_93 rfl (lv_at hl 1 rfl) ?_
                refine mm_iald C S h dX4_walkAt_94 (fun v10 h => ?_)
                refine lv_goto (tgt := 104) hx hb dX4_walkAt_95 (by decide) ?_
                exact j104 _ _ _ _ _ _ _ hk S (lv_sub hl [] rfl) h
            · have h := h.2 c9
              refine lv_aload_n hx hb dX4_walkAt_75 rfl (lv_at hl 0 rfl) ?_
              refine mm_gfa C S (ci := 3) (k := 32) rfl in_X4 (by decide) q1702 (fun _ h9 => h9) dX4_walkAt_76 h (fun u11 h => ?_)
              refine lv_iload_n hx hb dX4_walkAt_79 rfl (lv_at hl 1 rfl) ?_
              refine mm_iald C S h dX4_walkAt_80 (fun v12 h => ?_)
              refine lv_goto (tgt := 104) hx hb dX4_walkAt_81 (by decide) ?_
              exact j104 _ _ _ _ _ _ _ hk S (lv_sub hl [] rfl) h
          · have h := h.2 c9
            refine lv_aload_n hx hb dX4_walkAt_61 rfl (lv_at hl 0 rfl) ?_
            refine mm_gfa C S (ci := 3) (k := 31) rfl in_X4 (by decide) q1701 (fun _ h9 => h9) dX4_walkAt_62 h (fun u13 h => ?_)
            refine lv_iload_n hx hb dX4_walkAt_65 rfl (lv_at hl 1 rfl) ?_
            refine mm_iald C S h dX4_walkAt_66 (fun v14 h => ?_)
            refine lv_goto (tgt := 104) hx hb dX4_walkAt_67 (by decide) ?_
            exact j104 _ _ _ _ _ _ _ hk S (lv_sub hl [] rfl) h
        · have h := h.2 c9
          refine lv_aload_n hx hb dX4_walkAt_47 rfl (lv_at hl 0 rfl) ?_
          refine mm_gfa C S (ci := 3) (k := 30) rfl in_X4 (by decide) q1700 (fun _ h9 => h9) dX4_walkAt_48 h (fun u15 h => ?_)
          refine lv_iload_n hx hb dX4_walkAt_51 rfl (lv_at hl 1 rfl) ?_
          refine mm_iald C S h dX4_walkAt_52 (fun v16 h => ?_)
          refine lv_goto (tgt := 104) hx hb dX4_walkAt_53 (by decide) ?_
          exact j104 _ _ _ _ _ _ _ hk S (lv_sub hl [] rfl) h
      · have h := h.2 c9
        refine lv_aload_n hx hb dX4_walkAt_33 rfl (lv_at hl 0 rfl) ?_
        refine mm_gfa C S (ci := 3) (k := 34) rfl in_X4 (by decide) q1704 (fun _ h9 => h9) dX4_walkAt_34 h (fun u17 h => ?_)
        refine lv_iload_n hx hb dX4_walkAt_37 rfl (lv_at hl 1 rfl) ?_
        refine mm_iald C S h dX4_walkAt_38 (fun v18 h => ?_)
        refine lv_goto (tgt := 104) hx hb dX4_walkAt_39 (by decide) ?_
        exact j104 _ _ _ _ _ _ _ hk S (lv_sub hl [] rfl) h
    · have h := h.2 c9
      refine lv_iconst (v := 0) hx hb dX4_walkAt_27 (by decide) ?_
      exact mm_iret C S hr (Nat.le_trans (Nat.le_add_right _ _) hk) dX4_walkAt_28 h
  unfold wp_X4_walkAt at h
  refine lv_aload_n hx hb dX4_walkAt_0 rfl (lv_at hl 0 rfl) ?_
  refine lv_aload_n hx hb dX4_walkAt_1 rfl (lv_at hl 0 rfl) ?_
  refine lv_iload_n hx hb dX4_walkAt_2 rfl (lv_at hl 1 rfl) ?_
  obtain ⟨hI, h⟩ := h
  refine mm_V (As := [.int x1]) (rest := [.ref a0]) C S hl.1 (wk_X4_noWalk hst0 h) (T := TX4) rfl hI (lw_V q1997 q1999 qs41 q58 q2000) rfl pd_X4_noWalk ⟨Nat.le_of_ble_eq_true rfl, Nat.le_of_ble_eq_true rfl⟩ rfl rfl (Nat.le_of_ble_eq_true rfl) dX4_walkAt_3 rfl rfl hk (Nat.zero_add _) (fun v9 M1 H locs hP S hk => ?_) (fun E q ce M9 H9 locs9 hX => hX.elim)
  obtain ⟨v2, rfl, h⟩ := hP
  refine W.eq (g2 := F0 m 6 ls [.int v2, .ref a0]) rfl ?_
  refine lv_iload_n hx hb dX4_walkAt_6 rfl (lv_at hl 2 rfl) ?_
  refine lv_iconst (v := 0) hx hb dX4_walkAt_7 (by decide) ?_
  refine lv_iconst (v := 5) hx hb dX4_walkAt_8 (by decide) ?_
  refine mm_S (As := [.int x2, .int 0, .int 5]) (rest := [.int v2, .ref a0]) C S hl.1 (wk_X4_isIn hst0 h) (lw_S q1830 q1831 q58 q1832) pd_X4_isIn ⟨Nat.le_of_ble_eq_true rfl, Nat.le_of_ble_eq_true rfl⟩ rfl rfl (Nat.le_of_ble_eq_true rfl) dX4_walkAt_9 rfl rfl hk (Nat.zero_add _) (fun v9 M3 H locs hP S hk => ?_) (fun E q ce M9 H9 locs9 hX => hX.elim)
  obtain ⟨v4, rfl, h⟩ := hP
  refine W.eq (g2 := F0 m 12 ls [.int v4, .int v2, .ref a0]) rfl ?_
  refine lv_if_ne (tgt := 19) hx hb dX4_walkAt_12 (by decide) (fun c9 => ?_) (fun c9 => ?_)
  · have h := h.1 c9
    refine lv_iconst (v := 0) hx hb dX4_walkAt_19 (by decide) ?_
    exact j20 _ _ _ _ _ _ _ _ _ _ _ _ hk S hl h
  · have h := h.2 c9
    refine lv_iconst (v := 1) hx hb dX4_walkAt_15 (by decide) ?_
    refine lv_goto (tgt := 20) hx hb dX4_walkAt_16 (by decide) ?_
    exact j20 _ _ _ _ _ _ _ _ _ _ _ _ hk S hl h
/-! X4_worth: level 13 -/
def wb_X4_worth_23 (G : mG) (P : Int64 → mM → Prop) (r : Nat) (M : mM) (s0 : Int64) : Prop :=
  P s0 M
def wp_X4_worth (G : mG) (b : Nat) (P : Int64 → mM → Prop) (M : mM) (a0 : Nat) (x1 : Int32) : Prop :=
  isc M a0 3 ∧ (wp_X4_noRoute G 0 (fun v2 M1 => isc M1 a0 3 ∧ (wp_X4_fails G 0 (fun v4 M3 => (v4 = 0 → isc M3 a0 3 ∧ (wp_X4_worthOf G 0 (fun g6 M5 => wb_X4_worth_23 G P b M5 g6) M3 a0 x1)) ∧ (¬ v4 = 0 → wb_X4_worth_23 G P b M3 0)) M1 a0 v2 0 0)) M a0 x1)
set_option maxHeartbeats 4000000 in
set_option maxRecDepth 100000 in
theorem wk_X4_worth {l : Launch} (hst0 : l.stackTraces = false) {G : mG} {b : Nat} {P : Int64 → mM → Prop} {M : mM} {a0 : Nat} {x1 : Int32} (h : wp_X4_worth G b P M a0 x1) : mMet l yX4_worth (ws_ yX4_worth cX4_worth 2 (Option.some Jvm.ClassFile.FieldType.long)) 13 b G [.ref a0, .int x1] M (mRl P) (fun _ _ _ => False) := by
  refine mm_met hst0 (by decide) (Nat.le_of_ble_eq_true rfl) ?_
  intro p e s m args below meth c ls C hr hnt hnm hl S
  have hl : lv_has ls 2 [(0, .ref a0), (1, .int x1)] := hl
  generalize mA M s.heap.size = A at C S ⊢
  have hx := C.hx
  have hb := C.hb
  have hk : 0 + b ≤ b := Nat.le_of_eq (Nat.zero_add b)
  have j23 : ∀ (k r : Nat) (M : mM) (H : Heap) (locs : List Loc) (ls : Array Slot) (s0 : Int64), k + r ≤ b → mW G A s M H locs → lv_has ls 2 [] → wb_X4_worth_23 G P r M s0 → W p l e (mRm 13 b) s m args below meth c H locs k k (vx_MQ below (mQ G A (mRl P)) (mXC G A (fun _ _ _ => False)) args s b b A) (F0 m 23 ls [.long s0]) := by
    intro k r M H locs ls s0 hk S hl h
    unfold wb_X4_worth_23 at h
    exact mm_lret C S hr (Nat.le_trans (Nat.le_add_right _ _) hk) dX4_worth_23 h
  unfold wp_X4_worth at h
  refine lv_aload_n hx hb dX4_worth_0 rfl (lv_at hl 0 rfl) ?_
  refine lv_aload_n hx hb dX4_worth_1 rfl (lv_at hl 0 rfl) ?_
  refine lv_iload_n hx hb dX4_worth_2 rfl (lv_at hl 1 rfl) ?_
  obtain ⟨hI, h⟩ := h
  refine mm_V (As := [.int x1]) (rest := [.ref a0]) C S hl.1 (wk_X4_noRoute hst0 h) (T := TX4) rfl hI (lw_V q1945 q1947 qs35 q58 q1948) rfl pd_X4_noRoute ⟨Nat.le_of_ble_eq_true rfl, Nat.le_of_ble_eq_true rfl⟩ rfl rfl (Nat.le_of_ble_eq_true rfl) dX4_worth_3 rfl rfl hk (Nat.zero_add _) (fun v9 M1 H locs hP S hk => ?_) (fun E q ce M9 H9 locs9 hX => hX.elim)
  obtain ⟨v2, rfl, h⟩ := hP
  refine W.eq (g2 := F0 m 6 ls [.int v2, .ref a0]) rfl ?_
  refine lv_iconst (v := 0) hx hb dX4_worth_6 (by decide) ?_
  refine lv_iconst (v := 0) hx hb dX4_worth_7 (by decide) ?_
  obtain ⟨hI, h⟩ := h
  refine mm_V (As := [.int v2, .int 0, .int 0]) (rest := []) C S hl.1 (wk_X4_fails hst0 h) (T := TX4) rfl hI (lw_V q1836 q1838 qs22 q58 q1839) rfl pd_X4_fails ⟨Nat.le_of_ble_eq_true rfl, Nat.le_of_ble_eq_true rfl⟩ rfl rfl (Nat.le_of_ble_eq_true rfl) dX4_worth_8 rfl rfl hk (Nat.zero_add _) (fun v9 M3 H locs hP S hk => ?_) (fun E q ce M9 H9 locs9 hX => hX.elim)
  obtain ⟨v4, rfl, h⟩ := hP
  refine W.eq (g2 := F0 m 11 ls [.int v4]) rfl ?_
  refine lv_if_eq (tgt := 18) hx hb dX4_worth_11 (by decide) (fun c9 => ?_) (fun c9 => ?_)
  · have h := h.1 c9
    refine lv_aload_n hx hb dX4_worth_18 rfl (lv_at hl 0 rfl) ?_
    refine lv_iload_n hx hb dX4_worth_19 rfl (lv_at hl 1 rfl) ?_
    obtain ⟨hI, h⟩ := h
    refine mm_V (As := [.int x1]) (rest := []) C S hl.1 (wk_X4_worthOf hst0 h) (T := TX4) rfl hI (lw_V q1957 q1959 qs36 q58 q1960) rfl pd_X4_worthOf ⟨Nat.le_of_ble_eq_true rfl, Nat.le_of_ble_eq_true rfl⟩ rfl rfl (Nat.le_of_ble_eq_true rfl) dX4_worth_20 rfl rfl hk (Nat.zero_add _) (fun v9 M5 H locs hP S hk => ?_) (fun E q ce M9 H9 locs9 hX => hX.elim)
    obtain ⟨g6, rfl, h⟩ := hP
    refine W.eq (g2 := F0 m 23 ls [.long g6]) rfl ?_
    exact j23 _ _ _ _ _ _ _ hk S (lv_sub hl [] rfl) h
  · have h := h.2 c9
    refine lv_lconst (v := 0) hx hb dX4_worth_14 (by decide) ?_
    refine lv_goto (tgt := 23) hx hb dX4_worth_15 (by decide) ?_
    exact j23 _ _ _ _ _ _ _ hk S (lv_sub hl [] rfl) h
/-! L_law: level 37, alloc -/
def wb_L_law_2057 (G : mG) (P : Int32 → mM → Prop) (K23 : Nat → mM → Nat → Nat → Nat → Nat → Int32 → Prop) (r : Nat) (M : mM) (a0 : Nat) (a1 : Nat) (a2 : Nat) (a3 : Nat) (x4 : Int32) : Prop :=
  K23 r M a0 a1 a2 a3 (x4 + 6)
def wb_L_law_265 (G : mG) (P : Int32 → mM → Prop) (K23 : Nat → mM → Nat → Nat → Nat → Nat → Int32 → Prop) (r : Nat) (M : mM) (a0 : Nat) (a1 : Nat) (a2 : Nat) (a3 : Nat) (x4 : Int32) : Prop :=
  wb_L_law_2057 G P K23 r M a0 a1 a2 a3 x4
def wb_L_law_333 (G : mG) (P : Int32 → mM → Prop) (K23 : Nat → mM → Nat → Nat → Nat → Nat → Int32 → Prop) (r : Nat) (M : mM) (a0 : Nat) (a1 : Nat) (a2 : Nat) (a3 : Nat) (x4 : Int32) : Prop :=
  wb_L_law_2057 G P K23 r M a0 a1 a2 a3 x4
def wb_L_law_425 (G : mG) (P : Int32 → mM → Prop) (K23 : Nat → mM → Nat → Nat → Nat → Nat → Int32 → Prop) (r : Nat) (M : mM) (a0 : Nat) (a1 : Nat) (a2 : Nat) (a3 : Nat) (x4 : Int32) : Prop :=
  wb_L_law_2057 G P K23 r M a0 a1 a2 a3 x4
def wb_L_law_493 (G : mG) (P : Int32 → mM → Prop) (K23 : Nat → mM → Nat → Nat → Nat → Nat → Int32 → Prop) (r : Nat) (M : mM) (a0 : Nat) (a1 : Nat) (a2 : Nat) (a3 : Nat) (x4 : Int32) : Prop :=
  wb_L_law_2057 G P K23 r M a0 a1 a2 a3 x4
def wb_L_law_549 (G : mG) (P : Int32 → mM → Prop) (K23 : Nat → mM → Nat → Nat → Nat → Nat → Int32 → Prop) (r : Nat) (M : mM) (a0 : Nat) (a1 : Nat) (a2 : Nat) (a3 : Nat) (x4 : Int32) : Prop :=
  wb_L_law_2057 G P K23 r M a0 a1 a2 a3 x4
def wb_L_law_629 (G : mG) (P : Int32 → mM → Prop) (K23 : Nat → mM → Nat → Nat → Nat → Nat → Int32 → Prop) (r : Nat) (M : mM) (a0 : Nat) (a1 : Nat) (a2 : Nat) (a3 : Nat) (x4 : Int32) : Prop :=
  wb_L_law_2057 G P K23 r M a0 a1 a2 a3 x4
def wb_L_law_720 (G : mG) (P : Int32 → mM → Prop) (K23 : Nat → mM → Nat → Nat → Nat → Nat → Int32 → Prop) (r : Nat) (M : mM) (a0 : Nat) (a1 : Nat) (a2 : Nat) (a3 : Nat) (x4 : Int32) : Prop :=
  wb_L_law_2057 G P K23 r M a0 a1 a2 a3 x4
def wb_L_law_714 (G : mG) (P : Int32 → mM → Prop) (K23 : Nat → mM → Nat → Nat → Nat → Nat → Int32 → Prop) (r : Nat) (M : mM) (a0 : Nat) (a1 : Nat) (a2 : Nat) (a3 : Nat) (x4 : Int32) (s0 : Int64) (s1 : Int64) : Prop :=
  ((lg_cmp s0 s1) = 0 → wb_L_law_720 G P K23 r M a0 a1 a2 a3 x4) ∧ (¬ (lg_cmp s0 s1) = 0 → narrow .boolean (.int 0) = .int 0 ∧ P 0 M)
def wb_L_law_680 (G : mG) (P : Int32 → mM → Prop) (K23 : Nat → mM → Nat → Nat → Nat → Nat → Int32 → Prop) (r : Nat) (M : mM) (a0 : Nat) (a1 : Nat) (a2 : Nat) (a3 : Nat) (x4 : Int32) (x5 : Int32) (s0 : Nat) (s1 : Int32) (s2 : Int32) : Prop :=
  isc M s0 3 ∧ (∃ N586 N587 : mM, M = mUn N586 N587 ∧ (∀ q9, N586 q9 ≠ none → N587 q9 = none) ∧ wp_X4_setSluice G 0 (fun v579 N588 => (∀ q9 e9, N588 q9 = some (true, e9) → N587 q9 = none) → (fun M578 => isc M578 a2 3 ∧ (∃ N583 N584 : mM, M578 = mUn N583 N584 ∧ (∀ q9, N583 q9 ≠ none → N584 q9 = none) ∧ wp_X4_thrown G 0 (fun v581 N585 => (∀ q9 e9, N585 q9 = some (true, e9) → N584 q9 = none) → (fun M580 => (v581 = x5 → (¬ x5 = 0 → wb_L_law_720 G P K23 r M580 a0 a1 a2 a3 x4) ∧ (x5 = 0 → ldl M580 4 a3 0 fun v582 => (v579 = 0 → wb_L_law_714 G P K23 r M580 a0 a1 a2 a3 x4 v582 0) ∧ (¬ v579 = 0 → wb_L_law_714 G P K23 r M580 a0 a1 a2 a3 x4 v582 1))) ∧ (¬ v581 = x5 → narrow .boolean (.int 0) = .int 0 ∧ P 0 M580)) (mUn N585 N584)) N583 a2)) (mUn N588 N587)) N586 s0 s1 s2)
def wb_L_law_653 (G : mG) (P : Int32 → mM → Prop) (K23 : Nat → mM → Nat → Nat → Nat → Nat → Int32 → Prop) (r : Nat) (M : mM) (a0 : Nat) (a1 : Nat) (a2 : Nat) (a3 : Nat) (x4 : Int32) (s0 : Nat) (s1 : Int32) (s2 : Int32) : Prop :=
  ∃ b541 r542 : Nat, b541 + r542 = r ∧ ∃ N546 N547 : mM, M = mUn N546 N547 ∧ (∀ q9, N546 q9 ≠ none → N547 q9 = none) ∧ wp_X0_setSluice G b541 (fun v543 N548 => (∀ q9 e9, N548 q9 = some (true, e9) → N547 q9 = none) → (fun M540 => ldi M540 13 a0 (x4 + 1) fun v544 => ldi M540 13 a0 (x4 + 2) fun v545 => (v545 = 0 → wb_L_law_680 G P K23 r542 M540 a0 a1 a2 a3 x4 v543 a2 v544 0) ∧ (¬ v545 = 0 → wb_L_law_680 G P K23 r542 M540 a0 a1 a2 a3 x4 v543 a2 v544 1)) (mUn N548 N547)) N546 s0 s1 s2 a3
def wb_L_law_776 (G : mG) (P : Int32 → mM → Prop) (K23 : Nat → mM → Nat → Nat → Nat → Nat → Int32 → Prop) (r : Nat) (M : mM) (a0 : Nat) (a1 : Nat) (a2 : Nat) (a3 : Nat) (x4 : Int32) : Prop :=
  wb_L_law_2057 G P K23 r M a0 a1 a2 a3 x4
def wb_L_law_864 (G : mG) (P : Int32 → mM → Prop) (K23 : Nat → mM → Nat → Nat → Nat → Nat → Int32 → Prop) (r : Nat) (M : mM) (a0 : Nat) (a1 : Nat) (a2 : Nat) (a3 : Nat) (x4 : Int32) : Prop :=
  wb_L_law_2057 G P K23 r M a0 a1 a2 a3 x4
def wb_L_law_920 (G : mG) (P : Int32 → mM → Prop) (K23 : Nat → mM → Nat → Nat → Nat → Nat → Int32 → Prop) (r : Nat) (M : mM) (a0 : Nat) (a1 : Nat) (a2 : Nat) (a3 : Nat) (x4 : Int32) : Prop :=
  wb_L_law_2057 G P K23 r M a0 a1 a2 a3 x4
def wb_L_law_1014 (G : mG) (P : Int32 → mM → Prop) (K23 : Nat → mM → Nat → Nat → Nat → Nat → Int32 → Prop) (r : Nat) (M : mM) (a0 : Nat) (a1 : Nat) (a2 : Nat) (a3 : Nat) (x4 : Int32) : Prop :=
  wb_L_law_2057 G P K23 r M a0 a1 a2 a3 x4
def wb_L_law_1070 (G : mG) (P : Int32 → mM → Prop) (K23 : Nat → mM → Nat → Nat → Nat → Nat → Int32 → Prop) (r : Nat) (M : mM) (a0 : Nat) (a1 : Nat) (a2 : Nat) (a3 : Nat) (x4 : Int32) : Prop :=
  wb_L_law_2057 G P K23 r M a0 a1 a2 a3 x4
def wb_L_law_1125 (G : mG) (P : Int32 → mM → Prop) (K23 : Nat → mM → Nat → Nat → Nat → Nat → Int32 → Prop) (r : Nat) (M : mM) (a0 : Nat) (a1 : Nat) (a2 : Nat) (a3 : Nat) (x4 : Int32) : Prop :=
  wb_L_law_2057 G P K23 r M a0 a1 a2 a3 x4
def wb_L_law_1182 (G : mG) (P : Int32 → mM → Prop) (K23 : Nat → mM → Nat → Nat → Nat → Nat → Int32 → Prop) (r : Nat) (M : mM) (a0 : Nat) (a1 : Nat) (a2 : Nat) (a3 : Nat) (x4 : Int32) : Prop :=
  wb_L_law_2057 G P K23 r M a0 a1 a2 a3 x4
def wb_L_law_1262 (G : mG) (P : Int32 → mM → Prop) (K23 : Nat → mM → Nat → Nat → Nat → Nat → Int32 → Prop) (r : Nat) (M : mM) (a0 : Nat) (a1 : Nat) (a2 : Nat) (a3 : Nat) (x4 : Int32) : Prop :=
  wb_L_law_2057 G P K23 r M a0 a1 a2 a3 x4
def wb_L_law_1366 (G : mG) (P : Int32 → mM → Prop) (K23 : Nat → mM → Nat → Nat → Nat → Nat → Int32 → Prop) (r : Nat) (M : mM) (a0 : Nat) (a1 : Nat) (a2 : Nat) (a3 : Nat) (x4 : Int32) : Prop :=
  wb_L_law_2057 G P K23 r M a0 a1 a2 a3 x4
def wb_L_law_1450 (G : mG) (P : Int32 → mM → Prop) (K23 : Nat → mM → Nat → Nat → Nat → Nat → Int32 → Prop) (r : Nat) (M : mM) (a0 : Nat) (a1 : Nat) (a2 : Nat) (a3 : Nat) (x4 : Int32) : Prop :=
  wb_L_law_2057 G P K23 r M a0 a1 a2 a3 x4
def wb_L_law_1417 (G : mG) (P : Int32 → mM → Prop) (K23 : Nat → mM → Nat → Nat → Nat → Nat → Int32 → Prop) (r : Nat) (M : mM) (a0 : Nat) (a1 : Nat) (a2 : Nat) (a3 : Nat) (x4 : Int32) (x5 : Int32) (s0 : Nat) (s1 : Int32) (s2 : Int32) : Prop :=
  isc M s0 3 ∧ (∃ N597 N598 : mM, M = mUn N597 N598 ∧ (∀ q9, N597 q9 ≠ none → N598 q9 = none) ∧ wp_X4_end G 0 (fun v590 N599 => (∀ q9 e9, N599 q9 = some (true, e9) → N598 q9 = none) → (fun M589 => isc M589 a2 3 ∧ (∃ N594 N595 : mM, M589 = mUn N594 N595 ∧ (∀ q9, N594 q9 ≠ none → N595 q9 = none) ∧ wp_X4_thrown G 0 (fun v592 N596 => (∀ q9 e9, N596 q9 = some (true, e9) → N595 q9 = none) → (fun M591 => (v592 = x5 → (¬ x5 = 0 → wb_L_law_1450 G P K23 r M591 a0 a1 a2 a3 x4) ∧ (x5 = 0 → ldl M591 4 a3 0 fun v593 => ((lg_cmp v593 v590.toInt64) = 0 → wb_L_law_1450 G P K23 r M591 a0 a1 a2 a3 x4) ∧ (¬ (lg_cmp v593 v590.toInt64) = 0 → narrow .boolean (.int 0) = .int 0 ∧ P 0 M591))) ∧ (¬ v592 = x5 → narrow .boolean (.int 0) = .int 0 ∧ P 0 M591)) (mUn N596 N595)) N594 a2)) (mUn N599 N598)) N597 s0 s1 s2)
def wb_L_law_1390 (G : mG) (P : Int32 → mM → Prop) (K23 : Nat → mM → Nat → Nat → Nat → Nat → Int32 → Prop) (r : Nat) (M : mM) (a0 : Nat) (a1 : Nat) (a2 : Nat) (a3 : Nat) (x4 : Int32) (s0 : Nat) (s1 : Int32) (s2 : Int32) : Prop :=
  ∃ b550 r551 : Nat, b550 + r551 = r ∧ ∃ N555 N556 : mM, M = mUn N555 N556 ∧ (∀ q9, N555 q9 ≠ none → N556 q9 = none) ∧ wp_X0_end G b550 (fun v552 N557 => (∀ q9 e9, N557 q9 = some (true, e9) → N556 q9 = none) → (fun M549 => ldi M549 13 a0 (x4 + 1) fun v553 => ldi M549 13 a0 (x4 + 2) fun v554 => (v554 = 0 → wb_L_law_1417 G P K23 r551 M549 a0 a1 a2 a3 x4 v552 a2 v553 0) ∧ (¬ v554 = 0 → wb_L_law_1417 G P K23 r551 M549 a0 a1 a2 a3 x4 v552 a2 v553 1)) (mUn N557 N556)) N555 s0 s1 s2 a3
def wb_L_law_1518 (G : mG) (P : Int32 → mM → Prop) (K23 : Nat → mM → Nat → Nat → Nat → Nat → Int32 → Prop) (r : Nat) (M : mM) (a0 : Nat) (a1 : Nat) (a2 : Nat) (a3 : Nat) (x4 : Int32) : Prop :=
  wb_L_law_2057 G P K23 r M a0 a1 a2 a3 x4
def wb_L_law_1598 (G : mG) (P : Int32 → mM → Prop) (K23 : Nat → mM → Nat → Nat → Nat → Nat → Int32 → Prop) (r : Nat) (M : mM) (a0 : Nat) (a1 : Nat) (a2 : Nat) (a3 : Nat) (x4 : Int32) : Prop :=
  wb_L_law_2057 G P K23 r M a0 a1 a2 a3 x4
def wb_L_law_1666 (G : mG) (P : Int32 → mM → Prop) (K23 : Nat → mM → Nat → Nat → Nat → Nat → Int32 → Prop) (r : Nat) (M : mM) (a0 : Nat) (a1 : Nat) (a2 : Nat) (a3 : Nat) (x4 : Int32) : Prop :=
  wb_L_law_2057 G P K23 r M a0 a1 a2 a3 x4
def wb_L_law_1722 (G : mG) (P : Int32 → mM → Prop) (K23 : Nat → mM → Nat → Nat → Nat → Nat → Int32 → Prop) (r : Nat) (M : mM) (a0 : Nat) (a1 : Nat) (a2 : Nat) (a3 : Nat) (x4 : Int32) : Prop :=
  wb_L_law_2057 G P K23 r M a0 a1 a2 a3 x4
def wb_L_law_1830 (G : mG) (P : Int32 → mM → Prop) (K23 : Nat → mM → Nat → Nat → Nat → Nat → Int32 → Prop) (r : Nat) (M : mM) (a0 : Nat) (a1 : Nat) (a2 : Nat) (a3 : Nat) (x4 : Int32) : Prop :=
  wb_L_law_2057 G P K23 r M a0 a1 a2 a3 x4
def wb_L_law_1797 (G : mG) (P : Int32 → mM → Prop) (K23 : Nat → mM → Nat → Nat → Nat → Nat → Int32 → Prop) (r : Nat) (M : mM) (a0 : Nat) (a1 : Nat) (a2 : Nat) (a3 : Nat) (x4 : Int32) (x5 : Int32) (s0 : Nat) (s1 : Int32) (s2 : Int32) (s3 : Int32) (s4 : Int32) : Prop :=
  isc M s0 3 ∧ (∃ N608 N609 : mM, M = mUn N608 N609 ∧ (∀ q9, N608 q9 ≠ none → N609 q9 = none) ∧ wp_X4_numbers G 0 (fun v601 N610 => (∀ q9 e9, N610 q9 = some (true, e9) → N609 q9 = none) → (fun M600 => isc M600 a2 3 ∧ (∃ N605 N606 : mM, M600 = mUn N605 N606 ∧ (∀ q9, N605 q9 ≠ none → N606 q9 = none) ∧ wp_X4_thrown G 0 (fun v603 N607 => (∀ q9 e9, N607 q9 = some (true, e9) → N606 q9 = none) → (fun M602 => (v603 = x5 → (¬ x5 = 0 → wb_L_law_1830 G P K23 r M602 a0 a1 a2 a3 x4) ∧ (x5 = 0 → ldl M602 4 a3 0 fun v604 => ((lg_cmp v604 v601.toInt64) = 0 → wb_L_law_1830 G P K23 r M602 a0 a1 a2 a3 x4) ∧ (¬ (lg_cmp v604 v601.toInt64) = 0 → narrow .boolean (.int 0) = .int 0 ∧ P 0 M602))) ∧ (¬ v603 = x5 → narrow .boolean (.int 0) = .int 0 ∧ P 0 M602)) (mUn N607 N606)) N605 a2)) (mUn N610 N609)) N608 s0 s1 s2 s3 s4)
def wb_L_law_1758 (G : mG) (P : Int32 → mM → Prop) (K23 : Nat → mM → Nat → Nat → Nat → Nat → Int32 → Prop) (r : Nat) (M : mM) (a0 : Nat) (a1 : Nat) (a2 : Nat) (a3 : Nat) (x4 : Int32) (s0 : Nat) (s1 : Int32) (s2 : Int32) (s3 : Int32) (s4 : Int32) : Prop :=
  ∃ b559 r560 : Nat, b559 + r560 = r ∧ ∃ N566 N567 : mM, M = mUn N566 N567 ∧ (∀ q9, N566 q9 ≠ none → N567 q9 = none) ∧ wp_X0_numbers G b559 (fun v561 N568 => (∀ q9 e9, N568 q9 = some (true, e9) → N567 q9 = none) → (fun M558 => ldi M558 13 a0 (x4 + 1) fun v562 => ldi M558 13 a0 (x4 + 2) fun v563 => ldi M558 13 a0 (x4 + 3) fun v564 => ldi M558 13 a0 (x4 + 4) fun v565 => (v565 = 0 → wb_L_law_1797 G P K23 r560 M558 a0 a1 a2 a3 x4 v561 a2 v562 v563 v564 0) ∧ (¬ v565 = 0 → wb_L_law_1797 G P K23 r560 M558 a0 a1 a2 a3 x4 v561 a2 v562 v563 v564 1)) (mUn N568 N567)) N566 s0 s1 s2 s3 s4 a3
def wb_L_law_1913 (G : mG) (P : Int32 → mM → Prop) (K23 : Nat → mM → Nat → Nat → Nat → Nat → Int32 → Prop) (r : Nat) (M : mM) (a0 : Nat) (a1 : Nat) (a2 : Nat) (a3 : Nat) (x4 : Int32) : Prop :=
  wb_L_law_2057 G P K23 r M a0 a1 a2 a3 x4
def wb_L_law_1881 (G : mG) (P : Int32 → mM → Prop) (K23 : Nat → mM → Nat → Nat → Nat → Nat → Int32 → Prop) (r : Nat) (M : mM) (a0 : Nat) (a1 : Nat) (a2 : Nat) (a3 : Nat) (x4 : Int32) (x5 : Int32) (s0 : Nat) (s1 : Int32) (s2 : Int32) : Prop :=
  isc M s0 3 ∧ (∃ N619 N620 : mM, M = mUn N619 N620 ∧ (∀ q9, N619 q9 ≠ none → N620 q9 = none) ∧ wp_X4_total G 0 (fun g612 N621 => (∀ q9 e9, N621 q9 = some (true, e9) → N620 q9 = none) → (fun M611 => isc M611 a2 3 ∧ (∃ N616 N617 : mM, M611 = mUn N616 N617 ∧ (∀ q9, N616 q9 ≠ none → N617 q9 = none) ∧ wp_X4_thrown G 0 (fun v614 N618 => (∀ q9 e9, N618 q9 = some (true, e9) → N617 q9 = none) → (fun M613 => (v614 = x5 → (¬ x5 = 0 → wb_L_law_1913 G P K23 r M613 a0 a1 a2 a3 x4) ∧ (x5 = 0 → ldl M613 4 a3 0 fun v615 => ((lg_cmp v615 g612) = 0 → wb_L_law_1913 G P K23 r M613 a0 a1 a2 a3 x4) ∧ (¬ (lg_cmp v615 g612) = 0 → narrow .boolean (.int 0) = .int 0 ∧ P 0 M613))) ∧ (¬ v614 = x5 → narrow .boolean (.int 0) = .int 0 ∧ P 0 M613)) (mUn N618 N617)) N616 a2)) (mUn N621 N620)) N619 s0 s1 s2)
def wb_L_law_1854 (G : mG) (P : Int32 → mM → Prop) (K23 : Nat → mM → Nat → Nat → Nat → Nat → Int32 → Prop) (r : Nat) (M : mM) (a0 : Nat) (a1 : Nat) (a2 : Nat) (a3 : Nat) (x4 : Int32) (s0 : Nat) (s1 : Int32) (s2 : Int32) : Prop :=
  ∃ b570 r571 : Nat, b570 + r571 = r ∧ ∃ N575 N576 : mM, M = mUn N575 N576 ∧ (∀ q9, N575 q9 ≠ none → N576 q9 = none) ∧ wp_X0_total G b570 (fun v572 N577 => (∀ q9 e9, N577 q9 = some (true, e9) → N576 q9 = none) → (fun M569 => ldi M569 13 a0 (x4 + 1) fun v573 => ldi M569 13 a0 (x4 + 2) fun v574 => (v574 = 0 → wb_L_law_1881 G P K23 r571 M569 a0 a1 a2 a3 x4 v572 a2 v573 0) ∧ (¬ v574 = 0 → wb_L_law_1881 G P K23 r571 M569 a0 a1 a2 a3 x4 v572 a2 v573 1)) (mUn N577 N576)) N575 s0 s1 s2 a3
def wb_L_law_1957 (G : mG) (P : Int32 → mM → Prop) (K23 : Nat → mM → Nat → Nat → Nat → Nat → Int32 → Prop) (r : Nat) (M : mM) (a0 : Nat) (a1 : Nat) (a2 : Nat) (a3 : Nat) (x4 : Int32) : Prop :=
  wb_L_law_2057 G P K23 r M a0 a1 a2 a3 x4
def wb_L_law_2011 (G : mG) (P : Int32 → mM → Prop) (K23 : Nat → mM → Nat → Nat → Nat → Nat → Int32 → Prop) (r : Nat) (M : mM) (a0 : Nat) (a1 : Nat) (a2 : Nat) (a3 : Nat) (x4 : Int32) : Prop :=
  wb_L_law_2057 G P K23 r M a0 a1 a2 a3 x4
def wb_L_law_2009 (G : mG) (P : Int32 → mM → Prop) (r : Nat) (M : mM) : Prop :=
  narrow .boolean (.int 0) = .int 0 ∧ P 0 M
def wb_L_law_2054 (G : mG) (P : Int32 → mM → Prop) (K23 : Nat → mM → Nat → Nat → Nat → Nat → Int32 → Prop) (r : Nat) (M : mM) (a0 : Nat) (a1 : Nat) (a2 : Nat) (a3 : Nat) (x4 : Int32) : Prop :=
  wb_L_law_2057 G P K23 r M a0 a1 a2 a3 x4
def wb_L_law_2052 (G : mG) (P : Int32 → mM → Prop) (r : Nat) (M : mM) : Prop :=
  narrow .boolean (.int 0) = .int 0 ∧ P 0 M
def wl_L_law_23 (G : mG) (P : Int32 → mM → Prop) : Nat → Nat → mM → Nat → Nat → Nat → Nat → Int32 → Prop
  | 0, _, _, _, _, _, _, _ => False
  | n + 1, r, M, a0, a1, a2, a3, x4 => aln M a0 fun v22 => ((v22 - 6) < x4 → narrow .boolean (.int 1) = .int 1 ∧ P 1 M) ∧ (¬ (v22 - 6) < x4 → ldi M 13 a0 x4 fun v23 => ((v23 &&& 31) = 0 → ldi M 13 a0 (x4 + 1) fun v24 => ldi M 13 a0 (x4 + 2) fun v25 => ldi M 13 a0 (x4 + 3) fun v26 => ldi M 13 a0 (x4 + 4) fun v27 => ∃ b29 r30 : Nat, b29 + r30 = r ∧ ∃ N47 N48 : mM, M = mUn N47 N48 ∧ (∀ q9, N47 q9 ≠ none → N48 q9 = none) ∧ wp_X0_setCell G b29 (fun v31 N49 => (∀ q9 e9, N49 q9 = some (true, e9) → N48 q9 = none) → (fun M28 => ldi M28 13 a0 (x4 + 1) fun v32 => ldi M28 13 a0 (x4 + 2) fun v33 => ldi M28 13 a0 (x4 + 3) fun v34 => ldi M28 13 a0 (x4 + 4) fun v35 => isc M28 a2 3 ∧ (∃ N44 N45 : mM, M28 = mUn N44 N45 ∧ (∀ q9, N44 q9 ≠ none → N45 q9 = none) ∧ wp_X4_setCell G 0 (fun v37 N46 => (∀ q9 e9, N46 q9 = some (true, e9) → N45 q9 = none) → (fun M36 => isc M36 a2 3 ∧ (∃ N41 N42 : mM, M36 = mUn N41 N42 ∧ (∀ q9, N41 q9 ≠ none → N42 q9 = none) ∧ wp_X4_thrown G 0 (fun v39 N43 => (∀ q9 e9, N43 q9 = some (true, e9) → N42 q9 = none) → (fun M38 => (v39 = v31 → (¬ v31 = 0 → wb_L_law_265 G P (wl_L_law_23 G P n) r30 M38 a0 a1 a2 a3 x4) ∧ (v31 = 0 → ldl M38 4 a3 0 fun v40 => ((lg_cmp v40 v37.toInt64) = 0 → wb_L_law_265 G P (wl_L_law_23 G P n) r30 M38 a0 a1 a2 a3 x4) ∧ (¬ (lg_cmp v40 v37.toInt64) = 0 → narrow .boolean (.int 0) = .int 0 ∧ P 0 M38))) ∧ (¬ v39 = v31 → narrow .boolean (.int 0) = .int 0 ∧ P 0 M38)) (mUn N43 N42)) N41 a2)) (mUn N46 N45)) N44 a2 v32 v33 v34 v35)) (mUn N49 N48)) N47 a1 v24 v25 v26 v27 a3) ∧ ((v23 &&& 31) = 1 → ldi M 13 a0 (x4 + 1) fun v50 => ldi M 13 a0 (x4 + 2) fun v51 => ∃ b53 r54 : Nat, b53 + r54 = r ∧ ∃ N69 N70 : mM, M = mUn N69 N70 ∧ (∀ q9, N69 q9 ≠ none → N70 q9 = none) ∧ wp_X0_cellAt G b53 (fun v55 N71 => (∀ q9 e9, N71 q9 = some (true, e9) → N70 q9 = none) → (fun M52 => ldi M52 13 a0 (x4 + 1) fun v56 => ldi M52 13 a0 (x4 + 2) fun v57 => isc M52 a2 3 ∧ (∃ N66 N67 : mM, M52 = mUn N66 N67 ∧ (∀ q9, N66 q9 ≠ none → N67 q9 = none) ∧ wp_X4_cellAt G 0 (fun v59 N68 => (∀ q9 e9, N68 q9 = some (true, e9) → N67 q9 = none) → (fun M58 => isc M58 a2 3 ∧ (∃ N63 N64 : mM, M58 = mUn N63 N64 ∧ (∀ q9, N63 q9 ≠ none → N64 q9 = none) ∧ wp_X4_thrown G 0 (fun v61 N65 => (∀ q9 e9, N65 q9 = some (true, e9) → N64 q9 = none) → (fun M60 => (v61 = v55 → (¬ v55 = 0 → wb_L_law_333 G P (wl_L_law_23 G P n) r54 M60 a0 a1 a2 a3 x4) ∧ (v55 = 0 → ldl M60 4 a3 0 fun v62 => ((lg_cmp v62 v59.toInt64) = 0 → wb_L_law_333 G P (wl_L_law_23 G P n) r54 M60 a0 a1 a2 a3 x4) ∧ (¬ (lg_cmp v62 v59.toInt64) = 0 → narrow .boolean (.int 0) = .int 0 ∧ P 0 M60))) ∧ (¬ v61 = v55 → narrow .boolean (.int 0) = .int 0 ∧ P 0 M60)) (mUn N65 N64)) N63 a2)) (mUn N68 N67)) N66 a2 v56 v57)) (mUn N71 N70)) N69 a1 v50 v51 a3) ∧ ((v23 &&& 31) = 2 → ldi M 13 a0 (x4 + 1) fun v72 => ldi M 13 a0 (x4 + 2) fun v73 => ldi M 13 a0 (x4 + 3) fun v74 => ldi M 13 a0 (x4 + 4) fun v75 => ∃ b77 r78 : Nat, b77 + r78 = r ∧ ∃ N95 N96 : mM, M = mUn N95 N96 ∧ (∀ q9, N95 q9 ≠ none → N96 q9 = none) ∧ wp_X0_setKind G b77 (fun v79 N97 => (∀ q9 e9, N97 q9 = some (true, e9) → N96 q9 = none) → (fun M76 => ldi M76 13 a0 (x4 + 1) fun v80 => ldi M76 13 a0 (x4 + 2) fun v81 => ldi M76 13 a0 (x4 + 3) fun v82 => ldi M76 13 a0 (x4 + 4) fun v83 => isc M76 a2 3 ∧ (∃ N92 N93 : mM, M76 = mUn N92 N93 ∧ (∀ q9, N92 q9 ≠ none → N93 q9 = none) ∧ wp_X4_setKind G 0 (fun v85 N94 => (∀ q9 e9, N94 q9 = some (true, e9) → N93 q9 = none) → (fun M84 => isc M84 a2 3 ∧ (∃ N89 N90 : mM, M84 = mUn N89 N90 ∧ (∀ q9, N89 q9 ≠ none → N90 q9 = none) ∧ wp_X4_thrown G 0 (fun v87 N91 => (∀ q9 e9, N91 q9 = some (true, e9) → N90 q9 = none) → (fun M86 => (v87 = v79 → (¬ v79 = 0 → wb_L_law_425 G P (wl_L_law_23 G P n) r78 M86 a0 a1 a2 a3 x4) ∧ (v79 = 0 → ldl M86 4 a3 0 fun v88 => ((lg_cmp v88 v85.toInt64) = 0 → wb_L_law_425 G P (wl_L_law_23 G P n) r78 M86 a0 a1 a2 a3 x4) ∧ (¬ (lg_cmp v88 v85.toInt64) = 0 → narrow .boolean (.int 0) = .int 0 ∧ P 0 M86))) ∧ (¬ v87 = v79 → narrow .boolean (.int 0) = .int 0 ∧ P 0 M86)) (mUn N91 N90)) N89 a2)) (mUn N94 N93)) N92 a2 v80 v81 v82 v83)) (mUn N97 N96)) N95 a1 v72 v73 v74 v75 a3) ∧ ((v23 &&& 31) = 3 → ldi M 13 a0 (x4 + 1) fun v98 => ldi M 13 a0 (x4 + 2) fun v99 => ∃ b101 r102 : Nat, b101 + r102 = r ∧ ∃ N117 N118 : mM, M = mUn N117 N118 ∧ (∀ q9, N117 q9 ≠ none → N118 q9 = none) ∧ wp_X0_setInflow G b101 (fun v103 N119 => (∀ q9 e9, N119 q9 = some (true, e9) → N118 q9 = none) → (fun M100 => ldi M100 13 a0 (x4 + 1) fun v104 => ldi M100 13 a0 (x4 + 2) fun v105 => isc M100 a2 3 ∧ (∃ N114 N115 : mM, M100 = mUn N114 N115 ∧ (∀ q9, N114 q9 ≠ none → N115 q9 = none) ∧ wp_X4_setInflow G 0 (fun v107 N116 => (∀ q9 e9, N116 q9 = some (true, e9) → N115 q9 = none) → (fun M106 => isc M106 a2 3 ∧ (∃ N111 N112 : mM, M106 = mUn N111 N112 ∧ (∀ q9, N111 q9 ≠ none → N112 q9 = none) ∧ wp_X4_thrown G 0 (fun v109 N113 => (∀ q9 e9, N113 q9 = some (true, e9) → N112 q9 = none) → (fun M108 => (v109 = v103 → (¬ v103 = 0 → wb_L_law_493 G P (wl_L_law_23 G P n) r102 M108 a0 a1 a2 a3 x4) ∧ (v103 = 0 → ldl M108 4 a3 0 fun v110 => ((lg_cmp v110 v107.toInt64) = 0 → wb_L_law_493 G P (wl_L_law_23 G P n) r102 M108 a0 a1 a2 a3 x4) ∧ (¬ (lg_cmp v110 v107.toInt64) = 0 → narrow .boolean (.int 0) = .int 0 ∧ P 0 M108))) ∧ (¬ v109 = v103 → narrow .boolean (.int 0) = .int 0 ∧ P 0 M108)) (mUn N113 N112)) N111 a2)) (mUn N116 N115)) N114 a2 v104 v105)) (mUn N119 N118)) N117 a1 v98 v99 a3) ∧ ((v23 &&& 31) = 4 → ldi M 13 a0 (x4 + 1) fun v120 => ∃ b122 r123 : Nat, b122 + r123 = r ∧ ∃ N137 N138 : mM, M = mUn N137 N138 ∧ (∀ q9, N137 q9 ≠ none → N138 q9 = none) ∧ wp_X0_level G b122 (fun v124 N139 => (∀ q9 e9, N139 q9 = some (true, e9) → N138 q9 = none) → (fun M121 => ldi M121 13 a0 (x4 + 1) fun v125 => isc M121 a2 3 ∧ (∃ N134 N135 : mM, M121 = mUn N134 N135 ∧ (∀ q9, N134 q9 ≠ none → N135 q9 = none) ∧ wp_X4_level G 0 (fun v127 N136 => (∀ q9 e9, N136 q9 = some (true, e9) → N135 q9 = none) → (fun M126 => isc M126 a2 3 ∧ (∃ N131 N132 : mM, M126 = mUn N131 N132 ∧ (∀ q9, N131 q9 ≠ none → N132 q9 = none) ∧ wp_X4_thrown G 0 (fun v129 N133 => (∀ q9 e9, N133 q9 = some (true, e9) → N132 q9 = none) → (fun M128 => (v129 = v124 → (¬ v124 = 0 → wb_L_law_549 G P (wl_L_law_23 G P n) r123 M128 a0 a1 a2 a3 x4) ∧ (v124 = 0 → ldl M128 4 a3 0 fun v130 => ((lg_cmp v130 v127.toInt64) = 0 → wb_L_law_549 G P (wl_L_law_23 G P n) r123 M128 a0 a1 a2 a3 x4) ∧ (¬ (lg_cmp v130 v127.toInt64) = 0 → narrow .boolean (.int 0) = .int 0 ∧ P 0 M128))) ∧ (¬ v129 = v124 → narrow .boolean (.int 0) = .int 0 ∧ P 0 M128)) (mUn N133 N132)) N131 a2)) (mUn N136 N135)) N134 a2 v125)) (mUn N139 N138)) N137 a1 v120 a3) ∧ ((v23 &&& 31) = 5 → ldi M 13 a0 (x4 + 1) fun v140 => ldi M 13 a0 (x4 + 2) fun v141 => ldi M 13 a0 (x4 + 3) fun v142 => ∃ b144 r145 : Nat, b144 + r145 = r ∧ ∃ N161 N162 : mM, M = mUn N161 N162 ∧ (∀ q9, N161 q9 ≠ none → N162 q9 = none) ∧ wp_X0_addSluice G b144 (fun v146 N163 => (∀ q9 e9, N163 q9 = some (true, e9) → N162 q9 = none) → (fun M143 => ldi M143 13 a0 (x4 + 1) fun v147 => ldi M143 13 a0 (x4 + 2) fun v148 => ldi M143 13 a0 (x4 + 3) fun v149 => isc M143 a2 3 ∧ (∃ N158 N159 : mM, M143 = mUn N158 N159 ∧ (∀ q9, N158 q9 ≠ none → N159 q9 = none) ∧ wp_X4_addSluice G 0 (fun v151 N160 => (∀ q9 e9, N160 q9 = some (true, e9) → N159 q9 = none) → (fun M150 => isc M150 a2 3 ∧ (∃ N155 N156 : mM, M150 = mUn N155 N156 ∧ (∀ q9, N155 q9 ≠ none → N156 q9 = none) ∧ wp_X4_thrown G 0 (fun v153 N157 => (∀ q9 e9, N157 q9 = some (true, e9) → N156 q9 = none) → (fun M152 => (v153 = v146 → (¬ v146 = 0 → wb_L_law_629 G P (wl_L_law_23 G P n) r145 M152 a0 a1 a2 a3 x4) ∧ (v146 = 0 → ldl M152 4 a3 0 fun v154 => ((lg_cmp v154 v151.toInt64) = 0 → wb_L_law_629 G P (wl_L_law_23 G P n) r145 M152 a0 a1 a2 a3 x4) ∧ (¬ (lg_cmp v154 v151.toInt64) = 0 → narrow .boolean (.int 0) = .int 0 ∧ P 0 M152))) ∧ (¬ v153 = v146 → narrow .boolean (.int 0) = .int 0 ∧ P 0 M152)) (mUn N157 N156)) N155 a2)) (mUn N160 N159)) N158 a2 v147 v148 v149)) (mUn N163 N162)) N161 a1 v140 v141 v142 a3) ∧ ((v23 &&& 31) = 6 → ldi M 13 a0 (x4 + 1) fun v164 => ldi M 13 a0 (x4 + 2) fun v165 => (v165 = 0 → wb_L_law_653 G P (wl_L_law_23 G P n) r M a0 a1 a2 a3 x4 a1 v164 0) ∧ (¬ v165 = 0 → wb_L_law_653 G P (wl_L_law_23 G P n) r M a0 a1 a2 a3 x4 a1 v164 1)) ∧ ((v23 &&& 31) = 7 → ldi M 13 a0 (x4 + 1) fun v166 => ∃ b168 r169 : Nat, b168 + r169 = r ∧ ∃ N183 N184 : mM, M = mUn N183 N184 ∧ (∀ q9, N183 q9 ≠ none → N184 q9 = none) ∧ wp_X0_pass G b168 (fun v170 N185 => (∀ q9 e9, N185 q9 = some (true, e9) → N184 q9 = none) → (fun M167 => ldi M167 13 a0 (x4 + 1) fun v171 => isc M167 a2 3 ∧ (∃ N180 N181 : mM, M167 = mUn N180 N181 ∧ (∀ q9, N180 q9 ≠ none → N181 q9 = none) ∧ wp_X4_pass G 0 (fun v173 N182 => (∀ q9 e9, N182 q9 = some (true, e9) → N181 q9 = none) → (fun M172 => isc M172 a2 3 ∧ (∃ N177 N178 : mM, M172 = mUn N177 N178 ∧ (∀ q9, N177 q9 ≠ none → N178 q9 = none) ∧ wp_X4_thrown G 0 (fun v175 N179 => (∀ q9 e9, N179 q9 = some (true, e9) → N178 q9 = none) → (fun M174 => (v175 = v170 → (¬ v170 = 0 → wb_L_law_776 G P (wl_L_law_23 G P n) r169 M174 a0 a1 a2 a3 x4) ∧ (v170 = 0 → ldl M174 4 a3 0 fun v176 => ((lg_cmp v176 v173.toInt64) = 0 → wb_L_law_776 G P (wl_L_law_23 G P n) r169 M174 a0 a1 a2 a3 x4) ∧ (¬ (lg_cmp v176 v173.toInt64) = 0 → narrow .boolean (.int 0) = .int 0 ∧ P 0 M174))) ∧ (¬ v175 = v170 → narrow .boolean (.int 0) = .int 0 ∧ P 0 M174)) (mUn N179 N178)) N177 a2)) (mUn N182 N181)) N180 a2 v171)) (mUn N185 N184)) N183 a1 v166 a3) ∧ ((v23 &&& 31) = 8 → ldi M 13 a0 (x4 + 1) fun v186 => ∀ g187 : Int64, g187 = (v186.toInt64 <<< ((32 : Int32).toInt64 &&& 63)) → ldi M 13 a0 (x4 + 2) fun v188 => ∀ g189 : Int64, g189 = (v188.toInt64 &&& 4294967295) → ∃ b191 r192 : Nat, b191 + r192 = r ∧ ∃ N209 N210 : mM, M = mUn N209 N210 ∧ (∀ q9, N209 q9 ≠ none → N210 q9 = none) ∧ wp_X0_type G b191 (fun v193 N211 => (∀ q9 e9, N211 q9 = some (true, e9) → N210 q9 = none) → (fun M190 => ldi M190 13 a0 (x4 + 1) fun v194 => ∀ g195 : Int64, g195 = (v194.toInt64 <<< ((32 : Int32).toInt64 &&& 63)) → ldi M190 13 a0 (x4 + 2) fun v196 => ∀ g197 : Int64, g197 = (v196.toInt64 &&& 4294967295) → isc M190 a2 3 ∧ (∃ N206 N207 : mM, M190 = mUn N206 N207 ∧ (∀ q9, N206 q9 ≠ none → N207 q9 = none) ∧ wp_X4_type G 0 (fun v199 N208 => (∀ q9 e9, N208 q9 = some (true, e9) → N207 q9 = none) → (fun M198 => isc M198 a2 3 ∧ (∃ N203 N204 : mM, M198 = mUn N203 N204 ∧ (∀ q9, N203 q9 ≠ none → N204 q9 = none) ∧ wp_X4_thrown G 0 (fun v201 N205 => (∀ q9 e9, N205 q9 = some (true, e9) → N204 q9 = none) → (fun M200 => (v201 = v193 → (¬ v193 = 0 → wb_L_law_864 G P (wl_L_law_23 G P n) r192 M200 a0 a1 a2 a3 x4) ∧ (v193 = 0 → ldl M200 4 a3 0 fun v202 => ((lg_cmp v202 v199.toInt64) = 0 → wb_L_law_864 G P (wl_L_law_23 G P n) r192 M200 a0 a1 a2 a3 x4) ∧ (¬ (lg_cmp v202 v199.toInt64) = 0 → narrow .boolean (.int 0) = .int 0 ∧ P 0 M200))) ∧ (¬ v201 = v193 → narrow .boolean (.int 0) = .int 0 ∧ P 0 M200)) (mUn N205 N204)) N203 a2)) (mUn N208 N207)) N206 a2 (g195 ||| g197))) (mUn N211 N210)) N209 a1 (g187 ||| g189) a3) ∧ ((v23 &&& 31) = 9 → ldi M 13 a0 (x4 + 1) fun v212 => ∃ b214 r215 : Nat, b214 + r215 = r ∧ ∃ N229 N230 : mM, M = mUn N229 N230 ∧ (∀ q9, N229 q9 ≠ none → N230 q9 = none) ∧ wp_X0_route G b214 (fun v216 N231 => (∀ q9 e9, N231 q9 = some (true, e9) → N230 q9 = none) → (fun M213 => ldi M213 13 a0 (x4 + 1) fun v217 => isc M213 a2 3 ∧ (∃ N226 N227 : mM, M213 = mUn N226 N227 ∧ (∀ q9, N226 q9 ≠ none → N227 q9 = none) ∧ wp_X4_route G 0 (fun v219 N228 => (∀ q9 e9, N228 q9 = some (true, e9) → N227 q9 = none) → (fun M218 => isc M218 a2 3 ∧ (∃ N223 N224 : mM, M218 = mUn N223 N224 ∧ (∀ q9, N223 q9 ≠ none → N224 q9 = none) ∧ wp_X4_thrown G 0 (fun v221 N225 => (∀ q9 e9, N225 q9 = some (true, e9) → N224 q9 = none) → (fun M220 => (v221 = v216 → (¬ v216 = 0 → wb_L_law_920 G P (wl_L_law_23 G P n) r215 M220 a0 a1 a2 a3 x4) ∧ (v216 = 0 → ldl M220 4 a3 0 fun v222 => ((lg_cmp v222 v219.toInt64) = 0 → wb_L_law_920 G P (wl_L_law_23 G P n) r215 M220 a0 a1 a2 a3 x4) ∧ (¬ (lg_cmp v222 v219.toInt64) = 0 → narrow .boolean (.int 0) = .int 0 ∧ P 0 M220))) ∧ (¬ v221 = v216 → narrow .boolean (.int 0) = .int 0 ∧ P 0 M220)) (mUn N225 N224)) N223 a2)) (mUn N228 N227)) N226 a2 v217)) (mUn N231 N230)) N229 a1 v212 a3) ∧ ((v23 &&& 31) = 10 → isc M a1 0 ∧ (∃ N239 N240 : mM, M = mUn N239 N240 ∧ (∀ q9, N239 q9 ≠ none → N240 q9 = none) ∧ wp_X1_errorCode G 0 (fun v233 N241 => (∀ q9 e9, N241 q9 = some (true, e9) → N240 q9 = none) → (fun M232 => isc M232 a2 3 ∧ (∃ N236 N237 : mM, M232 = mUn N236 N237 ∧ (∀ q9, N236 q9 ≠ none → N237 q9 = none) ∧ wp_X4_errorCode G 0 (fun v235 N238 => (∀ q9 e9, N238 q9 = some (true, e9) → N237 q9 = none) → (fun M234 => (v233 = v235 → wb_L_law_2057 G P (wl_L_law_23 G P n) r M234 a0 a1 a2 a3 x4) ∧ (¬ v233 = v235 → narrow .boolean (.int 0) = .int 0 ∧ P 0 M234)) (mUn N238 N237)) N236 a2)) (mUn N241 N240)) N239 a1)) ∧ ((v23 &&& 31) = 11 → isc M a1 0 ∧ (∃ N249 N250 : mM, M = mUn N249 N250 ∧ (∀ q9, N249 q9 ≠ none → N250 q9 = none) ∧ wp_X1_errorOffset G 0 (fun v243 N251 => (∀ q9 e9, N251 q9 = some (true, e9) → N250 q9 = none) → (fun M242 => isc M242 a2 3 ∧ (∃ N246 N247 : mM, M242 = mUn N246 N247 ∧ (∀ q9, N246 q9 ≠ none → N247 q9 = none) ∧ wp_X4_errorOffset G 0 (fun v245 N248 => (∀ q9 e9, N248 q9 = some (true, e9) → N247 q9 = none) → (fun M244 => (v243 = v245 → wb_L_law_2057 G P (wl_L_law_23 G P n) r M244 a0 a1 a2 a3 x4) ∧ (¬ v243 = v245 → narrow .boolean (.int 0) = .int 0 ∧ P 0 M244)) (mUn N248 N247)) N246 a2)) (mUn N251 N250)) N249 a1)) ∧ ((v23 &&& 31) = 12 → ldi M 13 a0 (x4 + 1) fun v252 => ldi M 13 a0 (x4 + 2) fun v253 => ∃ b255 r256 : Nat, b255 + r256 = r ∧ ∃ N271 N272 : mM, M = mUn N271 N272 ∧ (∀ q9, N271 q9 ≠ none → N272 q9 = none) ∧ wp_X0_routeAt G b255 (fun v257 N273 => (∀ q9 e9, N273 q9 = some (true, e9) → N272 q9 = none) → (fun M254 => ldi M254 13 a0 (x4 + 1) fun v258 => ldi M254 13 a0 (x4 + 2) fun v259 => isc M254 a2 3 ∧ (∃ N268 N269 : mM, M254 = mUn N268 N269 ∧ (∀ q9, N268 q9 ≠ none → N269 q9 = none) ∧ wp_X4_routeAt G 0 (fun v261 N270 => (∀ q9 e9, N270 q9 = some (true, e9) → N269 q9 = none) → (fun M260 => isc M260 a2 3 ∧ (∃ N265 N266 : mM, M260 = mUn N265 N266 ∧ (∀ q9, N265 q9 ≠ none → N266 q9 = none) ∧ wp_X4_thrown G 0 (fun v263 N267 => (∀ q9 e9, N267 q9 = some (true, e9) → N266 q9 = none) → (fun M262 => (v263 = v257 → (¬ v257 = 0 → wb_L_law_1014 G P (wl_L_law_23 G P n) r256 M262 a0 a1 a2 a3 x4) ∧ (v257 = 0 → ldl M262 4 a3 0 fun v264 => ((lg_cmp v264 v261.toInt64) = 0 → wb_L_law_1014 G P (wl_L_law_23 G P n) r256 M262 a0 a1 a2 a3 x4) ∧ (¬ (lg_cmp v264 v261.toInt64) = 0 → narrow .boolean (.int 0) = .int 0 ∧ P 0 M262))) ∧ (¬ v263 = v257 → narrow .boolean (.int 0) = .int 0 ∧ P 0 M262)) (mUn N267 N266)) N265 a2)) (mUn N270 N269)) N268 a2 v258 v259)) (mUn N273 N272)) N271 a1 v252 v253 a3) ∧ ((v23 &&& 31) = 13 → ldi M 13 a0 (x4 + 1) fun v274 => ∃ b276 r277 : Nat, b276 + r277 = r ∧ ∃ N291 N292 : mM, M = mUn N291 N292 ∧ (∀ q9, N291 q9 ≠ none → N292 q9 = none) ∧ wp_X0_routeLength G b276 (fun v278 N293 => (∀ q9 e9, N293 q9 = some (true, e9) → N292 q9 = none) → (fun M275 => ldi M275 13 a0 (x4 + 1) fun v279 => isc M275 a2 3 ∧ (∃ N288 N289 : mM, M275 = mUn N288 N289 ∧ (∀ q9, N288 q9 ≠ none → N289 q9 = none) ∧ wp_X4_routeLength G 0 (fun v281 N290 => (∀ q9 e9, N290 q9 = some (true, e9) → N289 q9 = none) → (fun M280 => isc M280 a2 3 ∧ (∃ N285 N286 : mM, M280 = mUn N285 N286 ∧ (∀ q9, N285 q9 ≠ none → N286 q9 = none) ∧ wp_X4_thrown G 0 (fun v283 N287 => (∀ q9 e9, N287 q9 = some (true, e9) → N286 q9 = none) → (fun M282 => (v283 = v278 → (¬ v278 = 0 → wb_L_law_1070 G P (wl_L_law_23 G P n) r277 M282 a0 a1 a2 a3 x4) ∧ (v278 = 0 → ldl M282 4 a3 0 fun v284 => ((lg_cmp v284 v281.toInt64) = 0 → wb_L_law_1070 G P (wl_L_law_23 G P n) r277 M282 a0 a1 a2 a3 x4) ∧ (¬ (lg_cmp v284 v281.toInt64) = 0 → narrow .boolean (.int 0) = .int 0 ∧ P 0 M282))) ∧ (¬ v283 = v278 → narrow .boolean (.int 0) = .int 0 ∧ P 0 M282)) (mUn N287 N286)) N285 a2)) (mUn N290 N289)) N288 a2 v279)) (mUn N293 N292)) N291 a1 v274 a3) ∧ ((v23 &&& 31) = 14 → ldi M 13 a0 (x4 + 1) fun v294 => ∃ b296 r297 : Nat, b296 + r297 = r ∧ ∃ N311 N312 : mM, M = mUn N311 N312 ∧ (∀ q9, N311 q9 ≠ none → N312 q9 = none) ∧ wp_X0_worth G b296 (fun v298 N313 => (∀ q9 e9, N313 q9 = some (true, e9) → N312 q9 = none) → (fun M295 => ldi M295 13 a0 (x4 + 1) fun v299 => isc M295 a2 3 ∧ (∃ N308 N309 : mM, M295 = mUn N308 N309 ∧ (∀ q9, N308 q9 ≠ none → N309 q9 = none) ∧ wp_X4_worth G 0 (fun g301 N310 => (∀ q9 e9, N310 q9 = some (true, e9) → N309 q9 = none) → (fun M300 => isc M300 a2 3 ∧ (∃ N305 N306 : mM, M300 = mUn N305 N306 ∧ (∀ q9, N305 q9 ≠ none → N306 q9 = none) ∧ wp_X4_thrown G 0 (fun v303 N307 => (∀ q9 e9, N307 q9 = some (true, e9) → N306 q9 = none) → (fun M302 => (v303 = v298 → (¬ v298 = 0 → wb_L_law_1125 G P (wl_L_law_23 G P n) r297 M302 a0 a1 a2 a3 x4) ∧ (v298 = 0 → ldl M302 4 a3 0 fun v304 => ((lg_cmp v304 g301) = 0 → wb_L_law_1125 G P (wl_L_law_23 G P n) r297 M302 a0 a1 a2 a3 x4) ∧ (¬ (lg_cmp v304 g301) = 0 → narrow .boolean (.int 0) = .int 0 ∧ P 0 M302))) ∧ (¬ v303 = v298 → narrow .boolean (.int 0) = .int 0 ∧ P 0 M302)) (mUn N307 N306)) N305 a2)) (mUn N310 N309)) N308 a2 v299)) (mUn N313 N312)) N311 a1 v294 a3) ∧ ((v23 &&& 31) = 15 → isc M a1 0 ∧ (∃ N321 N322 : mM, M = mUn N321 N322 ∧ (∀ q9, N321 q9 ≠ none → N322 q9 = none) ∧ wp_X1_nextRoute G 0 (fun v315 N323 => (∀ q9 e9, N323 q9 = some (true, e9) → N322 q9 = none) → (fun M314 => isc M314 a2 3 ∧ (∃ N318 N319 : mM, M314 = mUn N318 N319 ∧ (∀ q9, N318 q9 ≠ none → N319 q9 = none) ∧ wp_X4_nextRoute G 0 (fun v317 N320 => (∀ q9 e9, N320 q9 = some (true, e9) → N319 q9 = none) → (fun M316 => (v315 = v317 → wb_L_law_2057 G P (wl_L_law_23 G P n) r M316 a0 a1 a2 a3 x4) ∧ (¬ v315 = v317 → narrow .boolean (.int 0) = .int 0 ∧ P 0 M316)) (mUn N320 N319)) N318 a2)) (mUn N323 N322)) N321 a1)) ∧ ((v23 &&& 31) = 16 → ∃ b325 r326 : Nat, b325 + r326 = r ∧ ∃ N339 N340 : mM, M = mUn N339 N340 ∧ (∀ q9, N339 q9 ≠ none → N340 q9 = none) ∧ wp_X0_addWalker G b325 (fun v327 N341 => (∀ q9 e9, N341 q9 = some (true, e9) → N340 q9 = none) → (fun M324 => isc M324 a2 3 ∧ (∃ N336 N337 : mM, M324 = mUn N336 N337 ∧ (∀ q9, N336 q9 ≠ none → N337 q9 = none) ∧ wp_X4_addWalker G 0 (fun v329 N338 => (∀ q9 e9, N338 q9 = some (true, e9) → N337 q9 = none) → (fun M328 => isc M328 a2 3 ∧ (∃ N333 N334 : mM, M328 = mUn N333 N334 ∧ (∀ q9, N333 q9 ≠ none → N334 q9 = none) ∧ wp_X4_thrown G 0 (fun v331 N335 => (∀ q9 e9, N335 q9 = some (true, e9) → N334 q9 = none) → (fun M330 => (v331 = v327 → (¬ v327 = 0 → wb_L_law_1182 G P (wl_L_law_23 G P n) r326 M330 a0 a1 a2 a3 x4) ∧ (v327 = 0 → ldl M330 4 a3 0 fun v332 => ((lg_cmp v332 v329.toInt64) = 0 → wb_L_law_1182 G P (wl_L_law_23 G P n) r326 M330 a0 a1 a2 a3 x4) ∧ (¬ (lg_cmp v332 v329.toInt64) = 0 → narrow .boolean (.int 0) = .int 0 ∧ P 0 M330))) ∧ (¬ v331 = v327 → narrow .boolean (.int 0) = .int 0 ∧ P 0 M330)) (mUn N335 N334)) N333 a2)) (mUn N338 N337)) N336 a2)) (mUn N341 N340)) N339 a1 a3) ∧ ((v23 &&& 31) = 17 → ldi M 13 a0 (x4 + 1) fun v342 => ldi M 13 a0 (x4 + 2) fun v343 => ldi M 13 a0 (x4 + 3) fun v344 => ∃ b346 r347 : Nat, b346 + r347 = r ∧ ∃ N363 N364 : mM, M = mUn N363 N364 ∧ (∀ q9, N363 q9 ≠ none → N364 q9 = none) ∧ wp_X0_walk G b346 (fun v348 N365 => (∀ q9 e9, N365 q9 = some (true, e9) → N364 q9 = none) → (fun M345 => ldi M345 13 a0 (x4 + 1) fun v349 => ldi M345 13 a0 (x4 + 2) fun v350 => ldi M345 13 a0 (x4 + 3) fun v351 => isc M345 a2 3 ∧ (∃ N360 N361 : mM, M345 = mUn N360 N361 ∧ (∀ q9, N360 q9 ≠ none → N361 q9 = none) ∧ wp_X4_walk G 0 (fun v353 N362 => (∀ q9 e9, N362 q9 = some (true, e9) → N361 q9 = none) → (fun M352 => isc M352 a2 3 ∧ (∃ N357 N358 : mM, M352 = mUn N357 N358 ∧ (∀ q9, N357 q9 ≠ none → N358 q9 = none) ∧ wp_X4_thrown G 0 (fun v355 N359 => (∀ q9 e9, N359 q9 = some (true, e9) → N358 q9 = none) → (fun M354 => (v355 = v348 → (¬ v348 = 0 → wb_L_law_1262 G P (wl_L_law_23 G P n) r347 M354 a0 a1 a2 a3 x4) ∧ (v348 = 0 → ldl M354 4 a3 0 fun v356 => ((lg_cmp v356 v353.toInt64) = 0 → wb_L_law_1262 G P (wl_L_law_23 G P n) r347 M354 a0 a1 a2 a3 x4) ∧ (¬ (lg_cmp v356 v353.toInt64) = 0 → narrow .boolean (.int 0) = .int 0 ∧ P 0 M354))) ∧ (¬ v355 = v348 → narrow .boolean (.int 0) = .int 0 ∧ P 0 M354)) (mUn N359 N358)) N357 a2)) (mUn N362 N361)) N360 a2 v349 v350 v351)) (mUn N365 N364)) N363 a1 v342 v343 v344 a3) ∧ ((v23 &&& 31) = 18 → ldi M 13 a0 (x4 + 1) fun v366 => ldi M 13 a0 (x4 + 2) fun v367 => ldi M 13 a0 (x4 + 3) fun v368 => ldi M 13 a0 (x4 + 4) fun v369 => ldi M 13 a0 (x4 + 5) fun v370 => ∃ b372 r373 : Nat, b372 + r373 = r ∧ ∃ N391 N392 : mM, M = mUn N391 N392 ∧ (∀ q9, N391 q9 ≠ none → N392 q9 = none) ∧ wp_X0_note G b372 (fun v374 N393 => (∀ q9 e9, N393 q9 = some (true, e9) → N392 q9 = none) → (fun M371 => ldi M371 13 a0 (x4 + 1) fun v375 => ldi M371 13 a0 (x4 + 2) fun v376 => ldi M371 13 a0 (x4 + 3) fun v377 => ldi M371 13 a0 (x4 + 4) fun v378 => ldi M371 13 a0 (x4 + 5) fun v379 => isc M371 a2 3 ∧ (∃ N388 N389 : mM, M371 = mUn N388 N389 ∧ (∀ q9, N388 q9 ≠ none → N389 q9 = none) ∧ wp_X4_note G 0 (fun v381 N390 => (∀ q9 e9, N390 q9 = some (true, e9) → N389 q9 = none) → (fun M380 => isc M380 a2 3 ∧ (∃ N385 N386 : mM, M380 = mUn N385 N386 ∧ (∀ q9, N385 q9 ≠ none → N386 q9 = none) ∧ wp_X4_thrown G 0 (fun v383 N387 => (∀ q9 e9, N387 q9 = some (true, e9) → N386 q9 = none) → (fun M382 => (v383 = v374 → (¬ v374 = 0 → wb_L_law_1366 G P (wl_L_law_23 G P n) r373 M382 a0 a1 a2 a3 x4) ∧ (v374 = 0 → ldl M382 4 a3 0 fun v384 => ((lg_cmp v384 v381.toInt64) = 0 → wb_L_law_1366 G P (wl_L_law_23 G P n) r373 M382 a0 a1 a2 a3 x4) ∧ (¬ (lg_cmp v384 v381.toInt64) = 0 → narrow .boolean (.int 0) = .int 0 ∧ P 0 M382))) ∧ (¬ v383 = v374 → narrow .boolean (.int 0) = .int 0 ∧ P 0 M382)) (mUn N387 N386)) N385 a2)) (mUn N390 N389)) N388 a2 v375 v376 v377 v378 v379)) (mUn N393 N392)) N391 a1 v366 v367 v368 v369 v370 a3) ∧ ((v23 &&& 31) = 19 → ldi M 13 a0 (x4 + 1) fun v394 => ldi M 13 a0 (x4 + 2) fun v395 => (v395 = 0 → wb_L_law_1390 G P (wl_L_law_23 G P n) r M a0 a1 a2 a3 x4 a1 v394 0) ∧ (¬ v395 = 0 → wb_L_law_1390 G P (wl_L_law_23 G P n) r M a0 a1 a2 a3 x4 a1 v394 1)) ∧ ((v23 &&& 31) = 20 → ldi M 13 a0 (x4 + 1) fun v396 => ldi M 13 a0 (x4 + 2) fun v397 => ∃ b399 r400 : Nat, b399 + r400 = r ∧ ∃ N415 N416 : mM, M = mUn N415 N416 ∧ (∀ q9, N415 q9 ≠ none → N416 q9 = none) ∧ wp_X0_walkAt G b399 (fun v401 N417 => (∀ q9 e9, N417 q9 = some (true, e9) → N416 q9 = none) → (fun M398 => ldi M398 13 a0 (x4 + 1) fun v402 => ldi M398 13 a0 (x4 + 2) fun v403 => isc M398 a2 3 ∧ (∃ N412 N413 : mM, M398 = mUn N412 N413 ∧ (∀ q9, N412 q9 ≠ none → N413 q9 = none) ∧ wp_X4_walkAt G 0 (fun v405 N414 => (∀ q9 e9, N414 q9 = some (true, e9) → N413 q9 = none) → (fun M404 => isc M404 a2 3 ∧ (∃ N409 N410 : mM, M404 = mUn N409 N410 ∧ (∀ q9, N409 q9 ≠ none → N410 q9 = none) ∧ wp_X4_thrown G 0 (fun v407 N411 => (∀ q9 e9, N411 q9 = some (true, e9) → N410 q9 = none) → (fun M406 => (v407 = v401 → (¬ v401 = 0 → wb_L_law_1518 G P (wl_L_law_23 G P n) r400 M406 a0 a1 a2 a3 x4) ∧ (v401 = 0 → ldl M406 4 a3 0 fun v408 => ((lg_cmp v408 v405.toInt64) = 0 → wb_L_law_1518 G P (wl_L_law_23 G P n) r400 M406 a0 a1 a2 a3 x4) ∧ (¬ (lg_cmp v408 v405.toInt64) = 0 → narrow .boolean (.int 0) = .int 0 ∧ P 0 M406))) ∧ (¬ v407 = v401 → narrow .boolean (.int 0) = .int 0 ∧ P 0 M406)) (mUn N411 N410)) N409 a2)) (mUn N414 N413)) N412 a2 v402 v403)) (mUn N417 N416)) N415 a1 v396 v397 a3) ∧ ((v23 &&& 31) = 21 → ldi M 13 a0 (x4 + 1) fun v418 => ldi M 13 a0 (x4 + 2) fun v419 => ldi M 13 a0 (x4 + 3) fun v420 => ∃ b422 r423 : Nat, b422 + r423 = r ∧ ∃ N439 N440 : mM, M = mUn N439 N440 ∧ (∀ q9, N439 q9 ≠ none → N440 q9 = none) ∧ wp_X0_curve G b422 (fun v424 N441 => (∀ q9 e9, N441 q9 = some (true, e9) → N440 q9 = none) → (fun M421 => ldi M421 13 a0 (x4 + 1) fun v425 => ldi M421 13 a0 (x4 + 2) fun v426 => ldi M421 13 a0 (x4 + 3) fun v427 => isc M421 a2 3 ∧ (∃ N436 N437 : mM, M421 = mUn N436 N437 ∧ (∀ q9, N436 q9 ≠ none → N437 q9 = none) ∧ wp_X4_curve G 0 (fun v429 N438 => (∀ q9 e9, N438 q9 = some (true, e9) → N437 q9 = none) → (fun M428 => isc M428 a2 3 ∧ (∃ N433 N434 : mM, M428 = mUn N433 N434 ∧ (∀ q9, N433 q9 ≠ none → N434 q9 = none) ∧ wp_X4_thrown G 0 (fun v431 N435 => (∀ q9 e9, N435 q9 = some (true, e9) → N434 q9 = none) → (fun M430 => (v431 = v424 → (¬ v424 = 0 → wb_L_law_1598 G P (wl_L_law_23 G P n) r423 M430 a0 a1 a2 a3 x4) ∧ (v424 = 0 → ldl M430 4 a3 0 fun v432 => ((lg_cmp v432 v429.toInt64) = 0 → wb_L_law_1598 G P (wl_L_law_23 G P n) r423 M430 a0 a1 a2 a3 x4) ∧ (¬ (lg_cmp v432 v429.toInt64) = 0 → narrow .boolean (.int 0) = .int 0 ∧ P 0 M430))) ∧ (¬ v431 = v424 → narrow .boolean (.int 0) = .int 0 ∧ P 0 M430)) (mUn N435 N434)) N433 a2)) (mUn N438 N437)) N436 a2 v425 v426 v427)) (mUn N441 N440)) N439 a1 v418 v419 v420 a3) ∧ ((v23 &&& 31) = 22 → ldi M 13 a0 (x4 + 1) fun v442 => ldi M 13 a0 (x4 + 2) fun v443 => ∃ b445 r446 : Nat, b445 + r446 = r ∧ ∃ N461 N462 : mM, M = mUn N461 N462 ∧ (∀ q9, N461 q9 ≠ none → N462 q9 = none) ∧ wp_X0_looks G b445 (fun v447 N463 => (∀ q9 e9, N463 q9 = some (true, e9) → N462 q9 = none) → (fun M444 => ldi M444 13 a0 (x4 + 1) fun v448 => ldi M444 13 a0 (x4 + 2) fun v449 => isc M444 a2 3 ∧ (∃ N458 N459 : mM, M444 = mUn N458 N459 ∧ (∀ q9, N458 q9 ≠ none → N459 q9 = none) ∧ wp_X4_looks G 0 (fun v451 N460 => (∀ q9 e9, N460 q9 = some (true, e9) → N459 q9 = none) → (fun M450 => isc M450 a2 3 ∧ (∃ N455 N456 : mM, M450 = mUn N455 N456 ∧ (∀ q9, N455 q9 ≠ none → N456 q9 = none) ∧ wp_X4_thrown G 0 (fun v453 N457 => (∀ q9 e9, N457 q9 = some (true, e9) → N456 q9 = none) → (fun M452 => (v453 = v447 → (¬ v447 = 0 → wb_L_law_1666 G P (wl_L_law_23 G P n) r446 M452 a0 a1 a2 a3 x4) ∧ (v447 = 0 → ldl M452 4 a3 0 fun v454 => ((lg_cmp v454 v451.toInt64) = 0 → wb_L_law_1666 G P (wl_L_law_23 G P n) r446 M452 a0 a1 a2 a3 x4) ∧ (¬ (lg_cmp v454 v451.toInt64) = 0 → narrow .boolean (.int 0) = .int 0 ∧ P 0 M452))) ∧ (¬ v453 = v447 → narrow .boolean (.int 0) = .int 0 ∧ P 0 M452)) (mUn N457 N456)) N455 a2)) (mUn N460 N459)) N458 a2 v448 v449)) (mUn N463 N462)) N461 a1 v442 v443 a3) ∧ ((v23 &&& 31) = 23 → ldi M 13 a0 (x4 + 1) fun v464 => ∃ b466 r467 : Nat, b466 + r467 = r ∧ ∃ N481 N482 : mM, M = mUn N481 N482 ∧ (∀ q9, N481 q9 ≠ none → N482 q9 = none) ∧ wp_X0_share G b466 (fun v468 N483 => (∀ q9 e9, N483 q9 = some (true, e9) → N482 q9 = none) → (fun M465 => ldi M465 13 a0 (x4 + 1) fun v469 => isc M465 a2 3 ∧ (∃ N478 N479 : mM, M465 = mUn N478 N479 ∧ (∀ q9, N478 q9 ≠ none → N479 q9 = none) ∧ wp_X4_share G 0 (fun v471 N480 => (∀ q9 e9, N480 q9 = some (true, e9) → N479 q9 = none) → (fun M470 => isc M470 a2 3 ∧ (∃ N475 N476 : mM, M470 = mUn N475 N476 ∧ (∀ q9, N475 q9 ≠ none → N476 q9 = none) ∧ wp_X4_thrown G 0 (fun v473 N477 => (∀ q9 e9, N477 q9 = some (true, e9) → N476 q9 = none) → (fun M472 => (v473 = v468 → (¬ v468 = 0 → wb_L_law_1722 G P (wl_L_law_23 G P n) r467 M472 a0 a1 a2 a3 x4) ∧ (v468 = 0 → ldl M472 4 a3 0 fun v474 => ((lg_cmp v474 v471.toInt64) = 0 → wb_L_law_1722 G P (wl_L_law_23 G P n) r467 M472 a0 a1 a2 a3 x4) ∧ (¬ (lg_cmp v474 v471.toInt64) = 0 → narrow .boolean (.int 0) = .int 0 ∧ P 0 M472))) ∧ (¬ v473 = v468 → narrow .boolean (.int 0) = .int 0 ∧ P 0 M472)) (mUn N477 N476)) N475 a2)) (mUn N480 N479)) N478 a2 v469)) (mUn N483 N482)) N481 a1 v464 a3) ∧ ((v23 &&& 31) = 24 → ldi M 13 a0 (x4 + 1) fun v484 => ldi M 13 a0 (x4 + 2) fun v485 => ldi M 13 a0 (x4 + 3) fun v486 => ldi M 13 a0 (x4 + 4) fun v487 => (v487 = 0 → wb_L_law_1758 G P (wl_L_law_23 G P n) r M a0 a1 a2 a3 x4 a1 v484 v485 v486 0) ∧ (¬ v487 = 0 → wb_L_law_1758 G P (wl_L_law_23 G P n) r M a0 a1 a2 a3 x4 a1 v484 v485 v486 1)) ∧ ((v23 &&& 31) = 25 → ldi M 13 a0 (x4 + 1) fun v488 => ldi M 13 a0 (x4 + 2) fun v489 => (v489 = 0 → wb_L_law_1854 G P (wl_L_law_23 G P n) r M a0 a1 a2 a3 x4 a1 v488 0) ∧ (¬ v489 = 0 → wb_L_law_1854 G P (wl_L_law_23 G P n) r M a0 a1 a2 a3 x4 a1 v488 1)) ∧ ((v23 &&& 31) = 26 → ∃ b491 r492 : Nat, b491 + r492 = r ∧ ∃ N505 N506 : mM, M = mUn N505 N506 ∧ (∀ q9, N505 q9 ≠ none → N506 q9 = none) ∧ wp_X0_nextYear G b491 (fun v493 N507 => (∀ q9 e9, N507 q9 = some (true, e9) → N506 q9 = none) → (fun M490 => isc M490 a2 3 ∧ (∃ N502 N503 : mM, M490 = mUn N502 N503 ∧ (∀ q9, N502 q9 ≠ none → N503 q9 = none) ∧ wp_X4_nextYear G 0 (fun v495 N504 => (∀ q9 e9, N504 q9 = some (true, e9) → N503 q9 = none) → (fun M494 => isc M494 a2 3 ∧ (∃ N499 N500 : mM, M494 = mUn N499 N500 ∧ (∀ q9, N499 q9 ≠ none → N500 q9 = none) ∧ wp_X4_thrown G 0 (fun v497 N501 => (∀ q9 e9, N501 q9 = some (true, e9) → N500 q9 = none) → (fun M496 => (v497 = v493 → (¬ v493 = 0 → wb_L_law_1957 G P (wl_L_law_23 G P n) r492 M496 a0 a1 a2 a3 x4) ∧ (v493 = 0 → ldl M496 4 a3 0 fun v498 => ((lg_cmp v498 v495.toInt64) = 0 → wb_L_law_1957 G P (wl_L_law_23 G P n) r492 M496 a0 a1 a2 a3 x4) ∧ (¬ (lg_cmp v498 v495.toInt64) = 0 → narrow .boolean (.int 0) = .int 0 ∧ P 0 M496))) ∧ (¬ v497 = v493 → narrow .boolean (.int 0) = .int 0 ∧ P 0 M496)) (mUn N501 N500)) N499 a2)) (mUn N504 N503)) N502 a2)) (mUn N507 N506)) N505 a1 a3) ∧ ((v23 &&& 31) = 27 → isc M a1 0 ∧ (∃ b509 r510 : Nat, b509 + r510 = r ∧ ∃ N517 N518 : mM, M = mUn N517 N518 ∧ (∀ q9, N517 q9 ≠ none → N518 q9 = none) ∧ wp_X1_errors G b509 (fun v511 N519 => (∀ q9 e9, N519 q9 = some (true, e9) → N518 q9 = none) → (fun M508 => isc M508 a2 3 ∧ (∃ N514 N515 : mM, M508 = mUn N514 N515 ∧ (∀ q9, N514 q9 ≠ none → N515 q9 = none) ∧ wp_X4_errors G 0 (fun v513 N516 => (∀ q9 e9, N516 q9 = some (true, e9) → N515 q9 = none) → (fun M512 => (v511 = v513 → wb_L_law_2057 G P (wl_L_law_23 G P n) r510 M512 a0 a1 a2 a3 x4) ∧ (¬ v511 = v513 → narrow .boolean (.int 0) = .int 0 ∧ P 0 M512)) (mUn N516 N515)) N514 a2)) (mUn N519 N518)) N517 a1)) ∧ ((v23 &&& 31) = 28 → isc M a1 0 ∧ (∃ N527 N528 : mM, M = mUn N527 N528 ∧ (∀ q9, N527 q9 ≠ none → N528 q9 = none) ∧ wp_X1_meanDoubt G 0 (fun g521 N529 => (∀ q9 e9, N529 q9 = some (true, e9) → N528 q9 = none) → (fun M520 => isc M520 a2 3 ∧ (∃ N524 N525 : mM, M520 = mUn N524 N525 ∧ (∀ q9, N524 q9 ≠ none → N525 q9 = none) ∧ wp_X4_meanDoubt G 0 (fun g523 N526 => (∀ q9 e9, N526 q9 = some (true, e9) → N525 q9 = none) → (fun M522 => ((Op.cmpValue (FP.dcmp g521 g523) .l) = 0 → wb_L_law_2011 G P (wl_L_law_23 G P n) r M522 a0 a1 a2 a3 x4) ∧ (¬ (Op.cmpValue (FP.dcmp g521 g523) .l) = 0 → ((Op.cmpValue (FP.dcmp g521 g521) .l) = 0 → wb_L_law_2009 G P r M522) ∧ (¬ (Op.cmpValue (FP.dcmp g521 g521) .l) = 0 → (¬ (Op.cmpValue (FP.dcmp g523 g523) .l) = 0 → wb_L_law_2011 G P (wl_L_law_23 G P n) r M522 a0 a1 a2 a3 x4) ∧ ((Op.cmpValue (FP.dcmp g523 g523) .l) = 0 → wb_L_law_2009 G P r M522)))) (mUn N526 N525)) N524 a2)) (mUn N529 N528)) N527 a1)) ∧ ((v23 &&& 31) = 29 → isc M a1 0 ∧ (∃ N537 N538 : mM, M = mUn N537 N538 ∧ (∀ q9, N537 q9 ≠ none → N538 q9 = none) ∧ wp_X1_doneShare G 0 (fun g531 N539 => (∀ q9 e9, N539 q9 = some (true, e9) → N538 q9 = none) → (fun M530 => vf_n64 (FP.f2d g531) ∧ (isc M530 a2 3 ∧ (∃ N534 N535 : mM, M530 = mUn N534 N535 ∧ (∀ q9, N534 q9 ≠ none → N535 q9 = none) ∧ wp_X4_doneShare G 0 (fun g533 N536 => (∀ q9 e9, N536 q9 = some (true, e9) → N535 q9 = none) → (fun M532 => vf_n64 (FP.f2d g533) ∧ (((Op.cmpValue (FP.dcmp (FP.f2d g531) (FP.f2d g533)) .l) = 0 → wb_L_law_2054 G P (wl_L_law_23 G P n) r M532 a0 a1 a2 a3 x4) ∧ (¬ (Op.cmpValue (FP.dcmp (FP.f2d g531) (FP.f2d g533)) .l) = 0 → ((Op.cmpValue (FP.dcmp (FP.f2d g531) (FP.f2d g531)) .l) = 0 → wb_L_law_2052 G P r M532) ∧ (¬ (Op.cmpValue (FP.dcmp (FP.f2d g531) (FP.f2d g531)) .l) = 0 → (¬ (Op.cmpValue (FP.dcmp (FP.f2d g533) (FP.f2d g533)) .l) = 0 → wb_L_law_2054 G P (wl_L_law_23 G P n) r M532 a0 a1 a2 a3 x4) ∧ ((Op.cmpValue (FP.dcmp (FP.f2d g533) (FP.f2d g533)) .l) = 0 → wb_L_law_2052 G P r M532))))) (mUn N536 N535)) N534 a2))) (mUn N539 N538)) N537 a1)) ∧ (¬ (v23 &&& 31) = 0 → ¬ (v23 &&& 31) = 1 → ¬ (v23 &&& 31) = 2 → ¬ (v23 &&& 31) = 3 → ¬ (v23 &&& 31) = 4 → ¬ (v23 &&& 31) = 5 → ¬ (v23 &&& 31) = 6 → ¬ (v23 &&& 31) = 7 → ¬ (v23 &&& 31) = 8 → ¬ (v23 &&& 31) = 9 → ¬ (v23 &&& 31) = 10 → ¬ (v23 &&& 31) = 11 → ¬ (v23 &&& 31) = 12 → ¬ (v23 &&& 31) = 13 → ¬ (v23 &&& 31) = 14 → ¬ (v23 &&& 31) = 15 → ¬ (v23 &&& 31) = 16 → ¬ (v23 &&& 31) = 17 → ¬ (v23 &&& 31) = 18 → ¬ (v23 &&& 31) = 19 → ¬ (v23 &&& 31) = 20 → ¬ (v23 &&& 31) = 21 → ¬ (v23 &&& 31) = 22 → ¬ (v23 &&& 31) = 23 → ¬ (v23 &&& 31) = 24 → ¬ (v23 &&& 31) = 25 → ¬ (v23 &&& 31) = 26 → ¬ (v23 &&& 31) = 27 → ¬ (v23 &&& 31) = 28 → ¬ (v23 &&& 31) = 29 → wb_L_law_2057 G P (wl_L_law_23 G P n) r M a0 a1 a2 a3 x4))
def wp_L_law (G : mG) (b : Nat) (P : Int32 → mM → Prop) (M : mM) (a0 : Nat) : Prop :=
  nwo M b 0 18 dfsX1 fun u1 M2 r3 => ∃ b5 r6 : Nat, b5 + r6 = r3 ∧ ∃ N19 N20 : mM, M2 = mUn N19 N20 ∧ (∀ q9, N19 q9 ≠ none → N20 q9 = none) ∧ wp_X1_init G b5 (fun N21 => (∀ q9 e9, N21 q9 = some (true, e9) → N20 q9 = none) → (fun M4 => nwo M4 r6 3 49 dfsX4 fun u7 M8 r9 => ∃ b11 r12 : Nat, b11 + r12 = r9 ∧ ∃ N16 N17 : mM, M8 = mUn N16 N17 ∧ (∀ q9, N16 q9 ≠ none → N17 q9 = none) ∧ wp_X4_init G b11 (fun N18 => (∀ q9 e9, N18 q9 = some (true, e9) → N17 q9 = none) → (fun M10 => nwa M10 r12 4 1 (.inr (.inl fun _ => 0)) fun u13 M14 r15 => ∃ n23, wl_L_law_23 G P n23 r15 M14 a0 u1 u7 u13 0) (mUn N18 N17)) N16 u7) (mUn N21 N20)) N19 u1
set_option maxHeartbeats 4000000 in
set_option maxRecDepth 100000 in
theorem wB_L_law {l : Launch} (hst0 : l.stackTraces = false) {G : mG} {b : Nat} {P : Int32 → mM → Prop} {M : mM} {a0 : Nat} (h : wp_L_law G b P M a0) : mBody l x code 9 ret 37 b G [.ref a0] M (mRi P) (fun _ _ _ => False) := by
  intro p e s m args below meth c ls C hr hl S
  have hl : lv_has ls 9 [(0, .ref a0)] := hl
  generalize mA M s.heap.size = A at C S ⊢
  have hx := C.hx
  have hb := C.hb
  have hk : 0 + b ≤ b := Nat.le_of_eq (Nat.zero_add b)
  have j2009 : ∀ (k r : Nat) (M : mM) (H : Heap) (locs : List Loc) (ls : Array Slot), k + r ≤ b → mW G A s M H locs → lv_has ls 9 [] → wb_L_law_2009 G P r M → W p l e (mRm 37 b) s m args below meth c H locs k k (vx_MQ below (mQ G A (mRi P)) (mXC G A (fun _ _ _ => False)) args s b b A) (F0 m 2009 ls []) := by
    intro k r M H locs ls  hk S hl h
    unfold wb_L_law_2009 at h
    refine lv_iconst (v := 0) hx hb dL_law_2009 (by decide) ?_
    exact mm_zret C S hr (Nat.le_trans (Nat.le_add_right _ _) hk) dL_law_2010 h
  have j2052 : ∀ (k r : Nat) (M : mM) (H : Heap) (locs : List Loc) (ls : Array Slot), k + r ≤ b → mW G A s M H locs → lv_has ls 9 [] → wb_L_law_2052 G P r M → W p l e (mRm 37 b) s m args below meth c H locs k k (vx_MQ below (mQ G A (mRi P)) (mXC G A (fun _ _ _ => False)) args s b b A) (F0 m 2052 ls []) := by
    intro k r M H locs ls  hk S hl h
    unfold wb_L_law_2052 at h
    refine lv_iconst (v := 0) hx hb dL_law_2052 (by decide) ?_
    exact mm_zret C S hr (Nat.le_trans (Nat.le_add_right _ _) hk) dL_law_2053 h
  have j23 : ∀ (nf : Nat) (k r : Nat) (M : mM) (H : Heap) (locs : List Loc) (ls : Array Slot) (a0 : Nat) (a1 : Nat) (a2 : Nat) (a3 : Nat) (x4 : Int32), k + r ≤ b → mW G A s M H locs → lv_has ls 9 [(0, .ref a0), (1, .ref a1), (2, .ref a2), (3, .ref a3), (4, .int x4)] → wl_L_law_23 G P nf r M a0 a1 a2 a3 x4 → W p l e (mRm 37 b) s m args below meth c H locs k k (vx_MQ below (mQ G A (mRi P)) (mXC G A (fun _ _ _ => False)) args s b b A) (F0 m 23 ls []) := by
    intro nf
    induction nf with
    | zero =>
      intro k r M H locs ls a0 a1 a2 a3 x4 hk S hl h
      rw [wl_L_law_23] at h
      exact h.elim
    | succ n23 ih23 =>
      have j2057 : ∀ (k r : Nat) (M : mM) (H : Heap) (locs : List Loc) (ls : Array Slot) (a0 : Nat) (a1 : Nat) (a2 : Nat) (a3 : Nat) (x4 : Int32), k + r ≤ b → mW G A s M H locs → lv_has ls 9 [(0, .ref a0), (1, .ref a1), (2, .ref a2), (3, .ref a3), (4, .int x4)] → wb_L_law_2057 G P (wl_L_law_23 G P n23) r M a0 a1 a2 a3 x4 → W p l e (mRm 37 b) s m args below meth c H locs k k (vx_MQ below (mQ G A (mRi P)) (mXC G A (fun _ _ _ => False)) args s b b A) (F0 m 2057 ls []) := by
        intro k r M H locs ls a0 a1 a2 a3 x4 hk S hl h
        unfold wb_L_law_2057 at h
        refine lv_iinc (v := (x4 + 6)) (lv' := [(4, .int (x4 + 6)), (0, .ref a0), (1, .ref a1), (2, .ref a2), (3, .ref a3)]) hx hb dL_law_2057 hl (k := 4) rfl rfl (by decide) rfl (fun ls hl => ?_)
        refine lv_goto (tgt := 23) hx hb dL_law_2060 (by decide) ?_
        exact ih23 _ _ _ _ _ _ _ _ _ _ _ hk S (lv_sub hl [1, 2, 3, 4, 0] rfl) h
      have j265 : ∀ (k r : Nat) (M : mM) (H : Heap) (locs : List Loc) (ls : Array Slot) (a0 : Nat) (a1 : Nat) (a2 : Nat) (a3 : Nat) (x4 : Int32), k + r ≤ b → mW G A s M H locs → lv_has ls 9 [(0, .ref a0), (1, .ref a1), (2, .ref a2), (3, .ref a3), (4, .int x4)] → wb_L_law_265 G P (wl_L_law_23 G P n23) r M a0 a1 a2 a3 x4 → W p l e (mRm 37 b) s m args below meth c H locs k k (vx_MQ below (mQ G A (mRi P)) (mXC G A (fun _ _ _ => False)) args s b b A) (F0 m 265 ls []) := by
        intro k r M H locs ls a0 a1 a2 a3 x4 hk S hl h
        unfold wb_L_law_265 at h
        refine lv_goto (tgt := 2057) hx hb dL_law_265 (by decide) ?_
        exact j2057 _ _ _ _ _ _ _ _ _ _ _ hk S hl h
      have j333 : ∀ (k r : Nat) (M : mM) (H : Heap) (locs : List Loc) (ls : Array Slot) (a0 : Nat) (a1 : Nat) (a2 : Nat) (a3 : Nat) (x4 : Int32), k + r ≤ b → mW G A s M H locs → lv_has ls 9 [(0, .ref a0), (1, .ref a1), (2, .ref a2), (3, .ref a3), (4, .int x4)] → wb_L_law_333 G P (wl_L_law_23 G P n23) r M a0 a1 a2 a3 x4 → W p l e (mRm 37 b) s m args below meth c H locs k k (vx_MQ below (mQ G A (mRi P)) (mXC G A (fun _ _ _ => False)) args s b b A) (F0 m 333 ls []) := by
        intro k r M H locs ls a0 a1 a2 a3 x4 hk S hl h
        unfold wb_L_law_333 at h
        refine lv_goto (tgt := 2057) hx hb dL_law_333 (by decide) ?_
        exact j2057 _ _ _ _ _ _ _ _ _ _ _ hk S hl h
      have j425 : ∀ (k r : Nat) (M : mM) (H : Heap) (locs : List Loc) (ls : Array Slot) (a0 : Nat) (a1 : Nat) (a2 : Nat) (a3 : Nat) (x4 : Int32), k + r ≤ b → mW G A s M H locs → lv_has ls 9 [(0, .ref a0), (1, .ref a1), (2, .ref a2), (3, .ref a3), (4, .int x4)] → wb_L_law_425 G P (wl_L_law_23 G P n23) r M a0 a1 a2 a3 x4 → W p l e (mRm 37 b) s m args below meth c H locs k k (vx_MQ below (mQ G A (mRi P)) (mXC G A (fun _ _ _ => False)) args s b b A) (F0 m 425 ls []) := by
        intro k r M H locs ls a0 a1 a2 a3 x4 hk S hl h
        unfold wb_L_law_425 at h
        refine lv_goto (tgt := 2057) hx hb dL_law_425 (by decide) ?_
        exact j2057 _ _ _ _ _ _ _ _ _ _ _ hk S hl h
      have j493 : ∀ (k r : Nat) (M : mM) (H : Heap) (locs : List Loc) (ls : Array Slot) (a0 : Nat) (a1 : Nat) (a2 : Nat) (a3 : Nat) (x4 : Int32), k + r ≤ b → mW G A s M H locs → lv_has ls 9 [(0, .ref a0), (1, .ref a1), (2, .ref a2), (3, .ref a3), (4, .int x4)] → wb_L_law_493 G P (wl_L_law_23 G P n23) r M a0 a1 a2 a3 x4 → W p l e (mRm 37 b) s m args below meth c H locs k k (vx_MQ below (mQ G A (mRi P)) (mXC G A (fun _ _ _ => False)) args s b b A) (F0 m 493 ls []) := by
        intro k r M H locs ls a0 a1 a2 a3 x4 hk S hl h
        unfold wb_L_law_493 at h
        refine lv_goto (tgt := 2057) hx hb dL_law_493 (by decide) ?_
        exact j2057 _ _ _ _ _ _ _ _ _ _ _ hk S hl h
      have j549 : ∀ (k r : Nat) (M : mM) (H : Heap) (locs : List Loc) (ls : Array Slot) (a0 : Nat) (a1 : Nat) (a2 : Nat) (a3 : Nat) (x4 : Int32), k + r ≤ b → mW G A s M H locs → lv_has ls 9 [(0, .ref a0), (1, .ref a1), (2, .ref a2), (3, .ref a3), (4, .int x4)] → wb_L_law_549 G P (wl_L_law_23 G P n23) r M a0 a1 a2 a3 x4 → W p l e (mRm 37 b) s m args below meth c H locs k k (vx_MQ below (mQ G A (mRi P)) (mXC G A (fun _ _ _ => False)) args s b b A) (F0 m 549 ls []) := by
        intro k r M H locs ls a0 a1 a2 a3 x4 hk S hl h
        unfold wb_L_law_549 at h
        refine lv_goto (tgt := 2057) hx hb dL_law_549 (by decide) ?_
        exact j2057 _ _ _ _ _ _ _ _ _ _ _ hk S hl h
      have j629 : ∀ (k r : Nat) (M : mM) (H : Heap) (locs : List Loc) (ls : Array Slot) (a0 : Nat) (a1 : Nat) (a2 : Nat) (a3 : Nat) (x4 : Int32), k + r ≤ b → mW G A s M H locs → lv_has ls 9 [(0, .ref a0), (1, .ref a1), (2, .ref a2), (3, .ref a3), (4, .int x4)] → wb_L_law_629 G P (wl_L_law_23 G P n23) r M a0 a1 a2 a3 x4 → W p l e (mRm 37 b) s m args below meth c H locs k k (vx_MQ below (mQ G A (mRi P)) (mXC G A (fun _ _ _ => False)) args s b b A) (F0 m 629 ls []) := by
        intro k r M H locs ls a0 a1 a2 a3 x4 hk S hl h
        unfold wb_L_law_629 at h
        refine lv_goto (tgt := 2057) hx hb dL_law_629 (by decide) ?_
        exact j2057 _ _ _ _ _ _ _ _ _ _ _ hk S hl h
      have j720 : ∀ (k r : Nat) (M : mM) (H : Heap) (locs : List Loc) (ls : Array Slot) (a0 : Nat) (a1 : Nat) (a2 : Nat) (a3 : Nat) (x4 : Int32), k + r ≤ b → mW G A s M H locs → lv_has ls 9 [(0, .ref a0), (1, .ref a1), (2, .ref a2), (3, .ref a3), (4, .int x4)] → wb_L_law_720 G P (wl_L_law_23 G P n23) r M a0 a1 a2 a3 x4 → W p l e (mRm 37 b) s m args below meth c H locs k k (vx_MQ below (mQ G A (mRi P)) (mXC G A (fun _ _ _ => False)) args s b b A) (F0 m 720 ls []) := by
        intro k r M H locs ls a0 a1 a2 a3 x4 hk S hl h
        unfold wb_L_law_720 at h
        refine lv_goto (tgt := 2057) hx hb dL_law_720 (by decide) ?_
        exact j2057 _ _ _ _ _ _ _ _ _ _ _ hk S hl h
      have j714 : ∀ (k r : Nat) (M : mM) (H : Heap) (locs : List Loc) (ls : Array Slot) (a0 : Nat) (a1 : Nat) (a2 : Nat) (a3 : Nat) (x4 : Int32) (s0 : Int64) (s1 : Int64), k + r ≤ b → mW G A s M H locs → lv_has ls 9 [(0, .ref a0), (1, .ref a1), (2, .ref a2), (3, .ref a3), (4, .int x4)] → wb_L_law_714 G P (wl_L_law_23 G P n23) r M a0 a1 a2 a3 x4 s0 s1 → W p l e (mRm 37 b) s m args below meth c H locs k k (vx_MQ below (mQ G A (mRi P)) (mXC G A (fun _ _ _ => False)) args s b b A) (F0 m 714 ls [.long s1, .long s0]) := by
        intro k r M H locs ls a0 a1 a2 a3 x4 s0 s1 hk S hl h
        unfold wb_L_law_714 at h
        refine W.lcmp hx hb dL_law_714 ?_
        refine lv_if_eq (tgt := 720) hx hb dL_law_715 (by decide) (fun c9 => ?_) (fun c9 => ?_)
        · have h := h.1 c9
          exact j720 _ _ _ _ _ _ _ _ _ _ _ hk S hl h
        · have h := h.2 c9
          refine lv_iconst (v := 0) hx hb dL_law_718 (by decide) ?_
          exact mm_zret C S hr (Nat.le_trans (Nat.le_add_right _ _) hk) dL_law_719 h
      have j680 : ∀ (k r : Nat) (M : mM) (H : Heap) (locs : List Loc) (ls : Array Slot) (a0 : Nat) (a1 : Nat) (a2 : Nat) (a3 : Nat) (x4 : Int32) (x5 : Int32) (s0 : Nat) (s1 : Int32) (s2 : Int32), k + r ≤ b → mW G A s M H locs → lv_has ls 9 [(0, .ref a0), (1, .ref a1), (2, .ref a2), (3, .ref a3), (4, .int x4), (5, .int x5)] → wb_L_law_680 G P (wl_L_law_23 G P n23) r M a0 a1 a2 a3 x4 x5 s0 s1 s2 → W p l e (mRm 37 b) s m args below meth c H locs k k (vx_MQ below (mQ G A (mRi P)) (mXC G A (fun _ _ _ => False)) args s b b A) (F0 m 680 ls [.int s2, .int s1, .ref s0]) := by
        intro k r M H locs ls a0 a1 a2 a3 x4 x5 s0 s1 s2 hk S hl h
        unfold wb_L_law_680 at h
        obtain ⟨hI, h⟩ := h
        obtain ⟨N586, N587, eM9, hdj, hN9⟩ := h
        subst eM9
        have h := hN9
        refine mm_V (As := [.int s1, .int s2]) (rest := []) C S hl.1 (mMet.frame hdj (wk_X4_setSluice hst0 h)) (T := TX4) rfl hI (lw_V q1871 q1872 q1873 q58 q1874) rfl pd_X4_setSluice ⟨Nat.le_of_ble_eq_true rfl, Nat.le_of_ble_eq_true rfl⟩ rfl rfl (Nat.le_of_ble_eq_true rfl) dL_law_680 rfl rfl hk (Nat.zero_add _) (fun v9 M578 H locs hP S hk => ?_) (fun E q ce M9 H9 locs9 hX => by obtain ⟨_, h9, _⟩ := hX; exact h9.elim)
        obtain ⟨_, ⟨v579, rfl, h⟩, eM8, hd9⟩ := hP
        have h := h hd9
        rw [← eM8] at h
        refine W.eq (g2 := F0 m 683 ls [.int v579]) rfl ?_
        refine lv_istore (lv' := [(6, .int v579), (0, .ref a0), (1, .ref a1), (2, .ref a2), (3, .ref a3), (4, .int x4), (5, .int x5)]) hx hb dL_law_683 hl (by decide) rfl (fun ls hl => ?_)
        refine lv_aload_n hx hb dL_law_685 rfl (lv_at hl 3 rfl) ?_
        obtain ⟨hI, h⟩ := h
        obtain ⟨N583, N584, eM9, hdj, hN9⟩ := h
        subst eM9
        have h := hN9
        refine mm_V (As := []) (rest := []) C S hl.1 (mMet.frame hdj (wk_X4_thrown hst0 h)) (T := TX4) rfl hI (lw_V q1819 q1820 q1821 q58 q1822) rfl pd_X4_thrown ⟨Nat.le_of_ble_eq_true rfl, Nat.le_of_ble_eq_true rfl⟩ rfl rfl (Nat.le_of_ble_eq_true rfl) dL_law_686 rfl rfl hk (Nat.zero_add _) (fun v9 M580 H locs hP S hk => ?_) (fun E q ce M9 H9 locs9 hX => by obtain ⟨_, h9, _⟩ := hX; exact h9.elim)
        obtain ⟨_, ⟨v581, rfl, h⟩, eM8, hd9⟩ := hP
        have h := h hd9
        rw [← eM8] at h
        refine W.eq (g2 := F0 m 689 ls [.int v581]) rfl ?_
        refine lv_iload hx hb dL_law_689 (lv_at hl 6 rfl) ?_
        refine lv_icmp_eq (tgt := 696) hx hb dL_law_691 (by decide) (fun c9 => ?_) (fun c9 => ?_)
        · have h := h.1 c9
          refine lv_iload hx hb dL_law_696 (lv_at hl 6 rfl) ?_
          refine lv_if_ne (tgt := 720) hx hb dL_law_698 (by decide) (fun c9 => ?_) (fun c9 => ?_)
          · have h := h.1 c9
            exact j720 _ _ _ _ _ _ _ _ _ _ _ hk S (lv_sub hl [1, 2, 3, 4, 5] rfl) h
          · have h := h.2 c9
            refine lv_aload_n hx hb dL_law_701 rfl (lv_at hl 4 rfl) ?_
            refine lv_iconst (v := 0) hx hb dL_law_702 (by decide) ?_
            refine mm_lald C S h dL_law_703 (fun v582 h => ?_)
            refine lv_iload hx hb dL_law_704 (lv_at hl 0 rfl) ?_
            refine lv_if_eq (tgt := 713) hx hb dL_law_706 (by decide) (fun c9 => ?_) (fun c9 => ?_)
            · have h := h.1 c9
              refine lv_lconst (v := 0) hx hb dL_law_713 (by decide) ?_
              exact j714 _ _ _ _ _ _ _ _ _ _ _ _ _ hk S (lv_sub hl [1, 2, 3, 4, 5] rfl) h
            · have h := h.2 c9
              refine lv_lconst (v := 1) hx hb dL_law_709 (by decide) ?_
              refine lv_goto (tgt := 714) hx hb dL_law_710 (by decide) ?_
              exact j714 _ _ _ _ _ _ _ _ _ _ _ _ _ hk S (lv_sub hl [1, 2, 3, 4, 5] rfl) h
        · have h := h.2 c9
          refine lv_iconst (v := 0) hx hb dL_law_694 (by decide) ?_
          exact mm_zret C S hr (Nat.le_trans (Nat.le_add_right _ _) hk) dL_law_695 h
      have j653 : ∀ (k r : Nat) (M : mM) (H : Heap) (locs : List Loc) (ls : Array Slot) (a0 : Nat) (a1 : Nat) (a2 : Nat) (a3 : Nat) (x4 : Int32) (s0 : Nat) (s1 : Int32) (s2 : Int32), k + r ≤ b → mW G A s M H locs → lv_has ls 9 [(0, .ref a0), (1, .ref a1), (2, .ref a2), (3, .ref a3), (4, .int x4)] → wb_L_law_653 G P (wl_L_law_23 G P n23) r M a0 a1 a2 a3 x4 s0 s1 s2 → W p l e (mRm 37 b) s m args below meth c H locs k k (vx_MQ below (mQ G A (mRi P)) (mXC G A (fun _ _ _ => False)) args s b b A) (F0 m 653 ls [.int s2, .int s1, .ref s0]) := by
        intro k r M H locs ls a0 a1 a2 a3 x4 s0 s1 s2 hk S hl h
        unfold wb_L_law_653 at h
        refine lv_aload_n hx hb dL_law_653 rfl (lv_at hl 3 rfl) ?_
        obtain ⟨b541, r542, hb9, h⟩ := h
        obtain ⟨N546, N547, eM9, hdj, hN9⟩ := h
        subst eM9
        have h := hN9
        refine mm_SX (As := [.ref s0, .int s1, .int s2, .ref a3]) (rest := []) C S hl.1 (mMet.frame hdj (wk_X0_setSluice hst0 h)) (lw_SW q721 q722 q47 q723) pd_X0_setSluice ⟨Nat.le_of_ble_eq_true rfl, Nat.le_of_ble_eq_true rfl⟩ rfl rfl (Nat.le_of_ble_eq_true rfl) dL_law_654 rfl rfl hk hb9 (fun v9 M540 H locs hP S hk => ?_) (fun E q ce M9 H9 locs9 hX => by obtain ⟨_, h9, _⟩ := hX; exact h9.elim)
        obtain ⟨_, ⟨v543, rfl, h⟩, eM8, hd9⟩ := hP
        have h := h hd9
        rw [← eM8] at h
        refine W.eq (g2 := F0 m 657 ls [.int v543]) rfl ?_
        refine lv_istore (lv' := [(5, .int v543), (0, .ref a0), (1, .ref a1), (2, .ref a2), (3, .ref a3), (4, .int x4)]) hx hb dL_law_657 hl (by decide) rfl (fun ls hl => ?_)
        refine lv_aload_n hx hb dL_law_659 rfl (lv_at hl 3 rfl) ?_
        refine lv_aload_n hx hb dL_law_660 rfl (lv_at hl 1 rfl) ?_
        refine lv_iload hx hb dL_law_661 (lv_at hl 5 rfl) ?_
        refine lv_iconst (v := 1) hx hb dL_law_663 (by decide) ?_
        refine lv_iadd hx hb dL_law_664 ?_
        refine mm_iald13 C S h dL_law_665 (fun v544 h => ?_)
        refine lv_aload_n hx hb dL_law_666 rfl (lv_at hl 1 rfl) ?_
        refine lv_iload hx hb dL_law_667 (lv_at hl 5 rfl) ?_
        refine lv_iconst (v := 2) hx hb dL_law_669 (by decide) ?_
        refine lv_iadd hx hb dL_law_670 ?_
        refine mm_iald13 C S h dL_law_671 (fun v545 h => ?_)
        refine lv_if_eq (tgt := 679) hx hb dL_law_672 (by decide) (fun c9 => ?_) (fun c9 => ?_)
        · have h := h.1 c9
          refine lv_iconst (v := 0) hx hb dL_law_679 (by decide) ?_
          exact j680 _ _ _ _ _ _ _ _ _ _ _ _ _ _ _ hk S (lv_sub hl [1, 2, 3, 4, 5, 0] rfl) h
        · have h := h.2 c9
          refine lv_iconst (v := 1) hx hb dL_law_675 (by decide) ?_
          refine lv_goto (tgt := 680) hx hb dL_law_676 (by decide) ?_
          exact j680 _ _ _ _ _ _ _ _ _ _ _ _ _ _ _ hk S (lv_sub hl [1, 2, 3, 4, 5, 0] rfl) h
      have j776 : ∀ (k r : Nat) (M : mM) (H : Heap) (locs : List Loc) (ls : Array Slot) (a0 : Nat) (a1 : Nat) (a2 : Nat) (a3 : Nat) (x4 : Int32), k + r ≤ b → mW G A s M H locs → lv_has ls 9 [(0, .ref a0), (1, .ref a1), (2, .ref a2), (3, .ref a3), (4, .int x4)] → wb_L_law_776 G P (wl_L_law_23 G P n23) r M a0 a1 a2 a3 x4 → W p l e (mRm 37 b) s m args below meth c H locs k k (vx_MQ below (mQ G A (mRi P)) (mXC G A (fun _ _ _ => False)) args s b b A) (F0 m 776 ls []) := by
        intro k r M H locs ls a0 a1 a2 a3 x4 hk S hl h
        unfold wb_L_law_776 at h
        refine lv_goto (tgt := 2057) hx hb dL_law_776 (by decide) ?_
        exact j2057 _ _ _ _ _ _ _ _ _ _ _ hk S hl h
      have j864 : ∀ (k r : Nat) (M : mM) (H : Heap) (locs : List Loc) (ls : Array Slot) (a0 : Nat) (a1 : Nat) (a2 : Nat) (a3 : Nat) (x4 : Int32), k + r ≤ b → mW G A s M H locs → lv_has ls 9 [(0, .ref a0), (1, .ref a1), (2, .ref a2), (3, .ref a3), (4, .int x4)] → wb_L_law_864 G P (wl_L_law_23 G P n23) r M a0 a1 a2 a3 x4 → W p l e (mRm 37 b) s m args below meth c H locs k k (vx_MQ below (mQ G A (mRi P)) (mXC G A (fun _ _ _ => False)) args s b b A) (F0 m 864 ls []) := by
        intro k r M H locs ls a0 a1 a2 a3 x4 hk S hl h
        unfold wb_L_law_864 at h
        refine lv_goto (tgt := 2057) hx hb dL_law_864 (by decide) ?_
        exact j2057 _ _ _ _ _ _ _ _ _ _ _ hk S hl h
      have j920 : ∀ (k r : Nat) (M : mM) (H : Heap) (locs : List Loc) (ls : Array Slot) (a0 : Nat) (a1 : Nat) (a2 : Nat) (a3 : Nat) (x4 : Int32), k + r ≤ b → mW G A s M H locs → lv_has ls 9 [(0, .ref a0), (1, .ref a1), (2, .ref a2), (3, .ref a3), (4, .int x4)] → wb_L_law_920 G P (wl_L_law_23 G P n23) r M a0 a1 a2 a3 x4 → W p l e (mRm 37 b) s m args below meth c H locs k k (vx_MQ below (mQ G A (mRi P)) (mXC G A (fun _ _ _ => False)) args s b b A) (F0 m 920 ls []) := by
        intro k r M H locs ls a0 a1 a2 a3 x4 hk S hl h
        unfold wb_L_law_920 at h
        refine lv_goto (tgt := 2057) hx hb dL_law_920 (by decide) ?_
        exact j2057 _ _ _ _ _ _ _ _ _ _ _ hk S hl h
      have j1014 : ∀ (k r : Nat) (M : mM) (H : Heap) (locs : List Loc) (ls : Array Slot) (a0 : Nat) (a1 : Nat) (a2 : Nat) (a3 : Nat) (x4 : Int32), k + r ≤ b → mW G A s M H locs → lv_has ls 9 [(0, .ref a0), (1, .ref a1), (2, .ref a2), (3, .ref a3), (4, .int x4)] → wb_L_law_1014 G P (wl_L_law_23 G P n23) r M a0 a1 a2 a3 x4 → W p l e (mRm 37 b) s m args below meth c H locs k k (vx_MQ below (mQ G A (mRi P)) (mXC G A (fun _ _ _ => False)) args s b b A) (F0 m 1014 ls []) := by
        intro k r M H locs ls a0 a1 a2 a3 x4 hk S hl h
        unfold wb_L_law_1014 at h
        refine lv_goto (tgt := 2057) hx hb dL_law_1014 (by decide) ?_
        exact j2057 _ _ _ _ _ _ _ _ _ _ _ hk S hl h
      have j1070 : ∀ (k r : Nat) (M : mM) (H : Heap) (locs : List Loc) (ls : Array Slot) (a0 : Nat) (a1 : Nat) (a2 : Nat) (a3 : Nat) (x4 : Int32), k + r ≤ b → mW G A s M H locs → lv_has ls 9 [(0, .ref a0), (1, .ref a1), (2, .ref a2), (3, .ref a3), (4, .int x4)] → wb_L_law_1070 G P (wl_L_law_23 G P n23) r M a0 a1 a2 a3 x4 → W p l e (mRm 37 b) s m args below meth c H locs k k (vx_MQ below (mQ G A (mRi P)) (mXC G A (fun _ _ _ => False)) args s b b A) (F0 m 1070 ls []) := by
        intro k r M H locs ls a0 a1 a2 a3 x4 hk S hl h
        unfold wb_L_law_1070 at h
        refine lv_goto (tgt := 2057) hx hb dL_law_1070 (by decide) ?_
        exact j2057 _ _ _ _ _ _ _ _ _ _ _ hk S hl h
      have j1125 : ∀ (k r : Nat) (M : mM) (H : Heap) (locs : List Loc) (ls : Array Slot) (a0 : Nat) (a1 : Nat) (a2 : Nat) (a3 : Nat) (x4 : Int32), k + r ≤ b → mW G A s M H locs → lv_has ls 9 [(0, .ref a0), (1, .ref a1), (2, .ref a2), (3, .ref a3), (4, .int x4)] → wb_L_law_1125 G P (wl_L_law_23 G P n23) r M a0 a1 a2 a3 x4 → W p l e (mRm 37 b) s m args below meth c H locs k k (vx_MQ below (mQ G A (mRi P)) (mXC G A (fun _ _ _ => False)) args s b b A) (F0 m 1125 ls []) := by
        intro k r M H locs ls a0 a1 a2 a3 x4 hk S hl h
        unfold wb_L_law_1125 at h
        refine lv_goto (tgt := 2057) hx hb dL_law_1125 (by decide) ?_
        exact j2057 _ _ _ _ _ _ _ _ _ _ _ hk S hl h
      have j1182 : ∀ (k r : Nat) (M : mM) (H : Heap) (locs : List Loc) (ls : Array Slot) (a0 : Nat) (a1 : Nat) (a2 : Nat) (a3 : Nat) (x4 : Int32), k + r ≤ b → mW G A s M H locs → lv_has ls 9 [(0, .ref a0), (1, .ref a1), (2, .ref a2), (3, .ref a3), (4, .int x4)] → wb_L_law_1182 G P (wl_L_law_23 G P n23) r M a0 a1 a2 a3 x4 → W p l e (mRm 37 b) s m args below meth c H locs k k (vx_MQ below (mQ G A (mRi P)) (mXC G A (fun _ _ _ => False)) args s b b A) (F0 m 1182 ls []) := by
        intro k r M H locs ls a0 a1 a2 a3 x4 hk S hl h
        unfold wb_L_law_1182 at h
        refine lv_goto (tgt := 2057) hx hb dL_law_1182 (by decide) ?_
        exact j2057 _ _ _ _ _ _ _ _ _ _ _ hk S hl h
      have j1262 : ∀ (k r : Nat) (M : mM) (H : Heap) (locs : List Loc) (ls : Array Slot) (a0 : Nat) (a1 : Nat) (a2 : Nat) (a3 : Nat) (x4 : Int32), k + r ≤ b → mW G A s M H locs → lv_has ls 9 [(0, .ref a0), (1, .ref a1), (2, .ref a2), (3, .ref a3), (4, .int x4)] → wb_L_law_1262 G P (wl_L_law_23 G P n23) r M a0 a1 a2 a3 x4 → W p l e (mRm 37 b) s m args below meth c H locs k k (vx_MQ below (mQ G A (mRi P)) (mXC G A (fun _ _ _ => False)) args s b b A) (F0 m 1262 ls []) := by
        intro k r M H locs ls a0 a1 a2 a3 x4 hk S hl h
        unfold wb_L_law_1262 at h
        refine lv_goto (tgt := 2057) hx hb dL_law_1262 (by decide) ?_
        exact j2057 _ _ _ _ _ _ _ _ _ _ _ hk S hl h
      have j1366 : ∀ (k r : Nat) (M : mM) (H : Heap) (locs : List Loc) (ls : Array Slot) (a0 : Nat) (a1 : Nat) (a2 : Nat) (a3 : Nat) (x4 : Int32), k + r ≤ b → mW G A s M H locs → lv_has ls 9 [(0, .ref a0), (1, .ref a1), (2, .ref a2), (3, .ref a3), (4, .int x4)] → wb_L_law_1366 G P (wl_L_law_23 G P n23) r M a0 a1 a2 a3 x4 → W p l e (mRm 37 b) s m args below meth c H locs k k (vx_MQ below (mQ G A (mRi P)) (mXC G A (fun _ _ _ => False)) args s b b A) (F0 m 1366 ls []) := by
        intro k r M H locs ls a0 a1 a2 a3 x4 hk S hl h
        unfold wb_L_law_1366 at h
        refine lv_goto (tgt := 2057) hx hb dL_law_1366 (by decide) ?_
        exact j2057 _ _ _ _ _ _ _ _ _ _ _ hk S hl h
      have j1450 : ∀ (k r : Nat) (M : mM) (H : Heap) (locs : List Loc) (ls : Array Slot) (a0 : Nat) (a1 : Nat) (a2 : Nat) (a3 : Nat) (x4 : Int32), k + r ≤ b → mW G A s M H locs → lv_has ls 9 [(0, .ref a0), (1, .ref a1), (2, .ref a2), (3, .ref a3), (4, .int x4)] → wb_L_law_1450 G P (wl_L_law_23 G P n23) r M a0 a1 a2 a3 x4 → W p l e (mRm 37 b) s m args below meth c H locs k k (vx_MQ below (mQ G A (mRi P)) (mXC G A (fun _ _ _ => False)) args s b b A) (F0 m 1450 ls []) := by
        intro k r M H locs ls a0 a1 a2 a3 x4 hk S hl h
        unfold wb_L_law_1450 at h
        refine lv_goto (tgt := 2057) hx hb dL_law_1450 (by decide) ?_
        exact j2057 _ _ _ _ _ _ _ _ _ _ _ hk S hl h
      have j1417 : ∀ (k r : Nat) (M : mM) (H : Heap) (locs : List Loc) (ls : Array Slot) (a0 : Nat) (a1 : Nat) (a2 : Nat) (a3 : Nat) (x4 : Int32) (x5 : Int32) (s0 : Nat) (s1 : Int32) (s2 : Int32), k + r ≤ b → mW G A s M H locs → lv_has ls 9 [(0, .ref a0), (1, .ref a1), (2, .ref a2), (3, .ref a3), (4, .int x4), (5, .int x5)] → wb_L_law_1417 G P (wl_L_law_23 G P n23) r M a0 a1 a2 a3 x4 x5 s0 s1 s2 → W p l e (mRm 37 b) s m args below meth c H locs k k (vx_MQ below (mQ G A (mRi P)) (mXC G A (fun _ _ _ => False)) args s b b A) (F0 m 1417 ls [.int s2, .int s1, .ref s0]) := by
        intro k r M H locs ls a0 a1 a2 a3 x4 x5 s0 s1 s2 hk S hl h
        unfold wb_L_law_1417 at h
        obtain ⟨hI, h⟩ := h
        obtain ⟨N597, N598, eM9, hdj, hN9⟩ := h
        subst eM9
        have h := hN9
        refine mm_V (As := [.int s1, .int s2]) (rest := []) C S hl.1 (mMet.frame hdj (wk_X4_end hst0 h)) (T := TX4) rfl hI (lw_V q2001 q2002 q2003 q58 q2004) rfl pd_X4_end ⟨Nat.le_of_ble_eq_true rfl, Nat.le_of_ble_eq_true rfl⟩ rfl rfl (Nat.le_of_ble_eq_true rfl) dL_law_1417 rfl rfl hk (Nat.zero_add _) (fun v9 M589 H locs hP S hk => ?_) (fun E q ce M9 H9 locs9 hX => by obtain ⟨_, h9, _⟩ := hX; exact h9.elim)
        obtain ⟨_, ⟨v590, rfl, h⟩, eM8, hd9⟩ := hP
        have h := h hd9
        rw [← eM8] at h
        refine W.eq (g2 := F0 m 1420 ls [.int v590]) rfl ?_
        refine lv_istore (lv' := [(6, .int v590), (0, .ref a0), (1, .ref a1), (2, .ref a2), (3, .ref a3), (4, .int x4), (5, .int x5)]) hx hb dL_law_1420 hl (by decide) rfl (fun ls hl => ?_)
        refine lv_aload_n hx hb dL_law_1422 rfl (lv_at hl 3 rfl) ?_
        obtain ⟨hI, h⟩ := h
        obtain ⟨N594, N595, eM9, hdj, hN9⟩ := h
        subst eM9
        have h := hN9
        refine mm_V (As := []) (rest := []) C S hl.1 (mMet.frame hdj (wk_X4_thrown hst0 h)) (T := TX4) rfl hI (lw_V q1819 q1820 q1821 q58 q1822) rfl pd_X4_thrown ⟨Nat.le_of_ble_eq_true rfl, Nat.le_of_ble_eq_true rfl⟩ rfl rfl (Nat.le_of_ble_eq_true rfl) dL_law_1423 rfl rfl hk (Nat.zero_add _) (fun v9 M591 H locs hP S hk => ?_) (fun E q ce M9 H9 locs9 hX => by obtain ⟨_, h9, _⟩ := hX; exact h9.elim)
        obtain ⟨_, ⟨v592, rfl, h⟩, eM8, hd9⟩ := hP
        have h := h hd9
        rw [← eM8] at h
        refine W.eq (g2 := F0 m 1426 ls [.int v592]) rfl ?_
        refine lv_iload hx hb dL_law_1426 (lv_at hl 6 rfl) ?_
        refine lv_icmp_eq (tgt := 1433) hx hb dL_law_1428 (by decide) (fun c9 => ?_) (fun c9 => ?_)
        · have h := h.1 c9
          refine lv_iload hx hb dL_law_1433 (lv_at hl 6 rfl) ?_
          refine lv_if_ne (tgt := 1450) hx hb dL_law_1435 (by decide) (fun c9 => ?_) (fun c9 => ?_)
          · have h := h.1 c9
            exact j1450 _ _ _ _ _ _ _ _ _ _ _ hk S (lv_sub hl [1, 2, 3, 4, 5] rfl) h
          · have h := h.2 c9
            refine lv_aload_n hx hb dL_law_1438 rfl (lv_at hl 4 rfl) ?_
            refine lv_iconst (v := 0) hx hb dL_law_1439 (by decide) ?_
            refine mm_lald C S h dL_law_1440 (fun v593 h => ?_)
            refine lv_iload hx hb dL_law_1441 (lv_at hl 0 rfl) ?_
            refine lv_i2l hx hb dL_law_1443 rfl ?_
            refine W.lcmp hx hb dL_law_1444 ?_
            refine lv_if_eq (tgt := 1450) hx hb dL_law_1445 (by decide) (fun c9 => ?_) (fun c9 => ?_)
            · have h := h.1 c9
              exact j1450 _ _ _ _ _ _ _ _ _ _ _ hk S (lv_sub hl [1, 2, 3, 4, 5] rfl) h
            · have h := h.2 c9
              refine lv_iconst (v := 0) hx hb dL_law_1448 (by decide) ?_
              exact mm_zret C S hr (Nat.le_trans (Nat.le_add_right _ _) hk) dL_law_1449 h
        · have h := h.2 c9
          refine lv_iconst (v := 0) hx hb dL_law_1431 (by decide) ?_
          exact mm_zret C S hr (Nat.le_trans (Nat.le_add_right _ _) hk) dL_law_1432 h
      have j1390 : ∀ (k r : Nat) (M : mM) (H : Heap) (locs : List Loc) (ls : Array Slot) (a0 : Nat) (a1 : Nat) (a2 : Nat) (a3 : Nat) (x4 : Int32) (s0 : Nat) (s1 : Int32) (s2 : Int32), k + r ≤ b → mW G A s M H locs → lv_has ls 9 [(0, .ref a0), (1, .ref a1), (2, .ref a2), (3, .ref a3), (4, .int x4)] → wb_L_law_1390 G P (wl_L_law_23 G P n23) r M a0 a1 a2 a3 x4 s0 s1 s2 → W p l e (mRm 37 b) s m args below meth c H locs k k (vx_MQ below (mQ G A (mRi P)) (mXC G A (fun _ _ _ => False)) args s b b A) (F0 m 1390 ls [.int s2, .int s1, .ref s0]) := by
        intro k r M H locs ls a0 a1 a2 a3 x4 s0 s1 s2 hk S hl h
        unfold wb_L_law_1390 at h
        refine lv_aload_n hx hb dL_law_1390 rfl (lv_at hl 3 rfl) ?_
        obtain ⟨b550, r551, hb9, h⟩ := h
        obtain ⟨N555, N556, eM9, hdj, hN9⟩ := h
        subst eM9
        have h := hN9
        refine mm_SX (As := [.ref s0, .int s1, .int s2, .ref a3]) (rest := []) C S hl.1 (mMet.frame hdj (wk_X0_end hst0 h)) (lw_SW q1550 q1551 q47 q1552) pd_X0_end ⟨Nat.le_of_ble_eq_true rfl, Nat.le_of_ble_eq_true rfl⟩ rfl rfl (Nat.le_of_ble_eq_true rfl) dL_law_1391 rfl rfl hk hb9 (fun v9 M549 H locs hP S hk => ?_) (fun E q ce M9 H9 locs9 hX => by obtain ⟨_, h9, _⟩ := hX; exact h9.elim)
        obtain ⟨_, ⟨v552, rfl, h⟩, eM8, hd9⟩ := hP
        have h := h hd9
        rw [← eM8] at h
        refine W.eq (g2 := F0 m 1394 ls [.int v552]) rfl ?_
        refine lv_istore (lv' := [(5, .int v552), (0, .ref a0), (1, .ref a1), (2, .ref a2), (3, .ref a3), (4, .int x4)]) hx hb dL_law_1394 hl (by decide) rfl (fun ls hl => ?_)
        refine lv_aload_n hx hb dL_law_1396 rfl (lv_at hl 3 rfl) ?_
        refine lv_aload_n hx hb dL_law_1397 rfl (lv_at hl 1 rfl) ?_
        refine lv_iload hx hb dL_law_1398 (lv_at hl 5 rfl) ?_
        refine lv_iconst (v := 1) hx hb dL_law_1400 (by decide) ?_
        refine lv_iadd hx hb dL_law_1401 ?_
        refine mm_iald13 C S h dL_law_1402 (fun v553 h => ?_)
        refine lv_aload_n hx hb dL_law_1403 rfl (lv_at hl 1 rfl) ?_
        refine lv_iload hx hb dL_law_1404 (lv_at hl 5 rfl) ?_
        refine lv_iconst (v := 2) hx hb dL_law_1406 (by decide) ?_
        refine lv_iadd hx hb dL_law_1407 ?_
        refine mm_iald13 C S h dL_law_1408 (fun v554 h => ?_)
        refine lv_if_eq (tgt := 1416) hx hb dL_law_1409 (by decide) (fun c9 => ?_) (fun c9 => ?_)
        · have h := h.1 c9
          refine lv_iconst (v := 0) hx hb dL_law_1416 (by decide) ?_
          exact j1417 _ _ _ _ _ _ _ _ _ _ _ _ _ _ _ hk S (lv_sub hl [1, 2, 3, 4, 5, 0] rfl) h
        · have h := h.2 c9
          refine lv_iconst (v := 1) hx hb dL_law_1412 (by decide) ?_
          refine lv_goto (tgt := 1417) hx hb dL_law_1413 (by decide) ?_
          exact j1417 _ _ _ _ _ _ _ _ _ _ _ _ _ _ _ hk S (lv_sub hl [1, 2, 3, 4, 5, 0] rfl) h
      have j1518 : ∀ (k r : Nat) (M : mM) (H : Heap) (locs : List Loc) (ls : Array Slot) (a0 : Nat) (a1 : Nat) (a2 : Nat) (a3 : Nat) (x4 : Int32), k + r ≤ b → mW G A s M H locs → lv_has ls 9 [(0, .ref a0), (1, .ref a1), (2, .ref a2), (3, .ref a3), (4, .int x4)] → wb_L_law_1518 G P (wl_L_law_23 G P n23) r M a0 a1 a2 a3 x4 → W p l e (mRm 37 b) s m args below meth c H locs k k (vx_MQ below (mQ G A (mRi P)) (mXC G A (fun _ _ _ => False)) args s b b A) (F0 m 1518 ls []) := by
        intro k r M H locs ls a0 a1 a2 a3 x4 hk S hl h
        unfold wb_L_law_1518 at h
        refine lv_goto (tgt := 2057) hx hb dL_law_1518 (by decide) ?_
        exact j2057 _ _ _ _ _ _ _ _ _ _ _ hk S hl h
      have j1598 : ∀ (k r : Nat) (M : mM) (H : Heap) (locs : List Loc) (ls : Array Slot) (a0 : Nat) (a1 : Nat) (a2 : Nat) (a3 : Nat) (x4 : Int32), k + r ≤ b → mW G A s M H locs → lv_has ls 9 [(0, .ref a0), (1, .ref a1), (2, .ref a2), (3, .ref a3), (4, .int x4)] → wb_L_law_1598 G P (wl_L_law_23 G P n23) r M a0 a1 a2 a3 x4 → W p l e (mRm 37 b) s m args below meth c H locs k k (vx_MQ below (mQ G A (mRi P)) (mXC G A (fun _ _ _ => False)) args s b b A) (F0 m 1598 ls []) := by
        intro k r M H locs ls a0 a1 a2 a3 x4 hk S hl h
        unfold wb_L_law_1598 at h
        refine lv_goto (tgt := 2057) hx hb dL_law_1598 (by decide) ?_
        exact j2057 _ _ _ _ _ _ _ _ _ _ _ hk S hl h
      have j1666 : ∀ (k r : Nat) (M : mM) (H : Heap) (locs : List Loc) (ls : Array Slot) (a0 : Nat) (a1 : Nat) (a2 : Nat) (a3 : Nat) (x4 : Int32), k + r ≤ b → mW G A s M H locs → lv_has ls 9 [(0, .ref a0), (1, .ref a1), (2, .ref a2), (3, .ref a3), (4, .int x4)] → wb_L_law_1666 G P (wl_L_law_23 G P n23) r M a0 a1 a2 a3 x4 → W p l e (mRm 37 b) s m args below meth c H locs k k (vx_MQ below (mQ G A (mRi P)) (mXC G A (fun _ _ _ => False)) args s b b A) (F0 m 1666 ls []) := by
        intro k r M H locs ls a0 a1 a2 a3 x4 hk S hl h
        unfold wb_L_law_1666 at h
        refine lv_goto (tgt := 2057) hx hb dL_law_1666 (by decide) ?_
        exact j2057 _ _ _ _ _ _ _ _ _ _ _ hk S hl h
      have j1722 : ∀ (k r : Nat) (M : mM) (H : Heap) (locs : List Loc) (ls : Array Slot) (a0 : Nat) (a1 : Nat) (a2 : Nat) (a3 : Nat) (x4 : Int32), k + r ≤ b → mW G A s M H locs → lv_has ls 9 [(0, .ref a0), (1, .ref a1), (2, .ref a2), (3, .ref a3), (4, .int x4)] → wb_L_law_1722 G P (wl_L_law_23 G P n23) r M a0 a1 a2 a3 x4 → W p l e (mRm 37 b) s m args below meth c H locs k k (vx_MQ below (mQ G A (mRi P)) (mXC G A (fun _ _ _ => False)) args s b b A) (F0 m 1722 ls []) := by
        intro k r M H locs ls a0 a1 a2 a3 x4 hk S hl h
        unfold wb_L_law_1722 at h
        refine lv_goto (tgt := 2057) hx hb dL_law_1722 (by decide) ?_
        exact j2057 _ _ _ _ _ _ _ _ _ _ _ hk S hl h
      have j1830 : ∀ (k r : Nat) (M : mM) (H : Heap) (locs : List Loc) (ls : Array Slot) (a0 : Nat) (a1 : Nat) (a2 : Nat) (a3 : Nat) (x4 : Int32), k + r ≤ b → mW G A s M H locs → lv_has ls 9 [(0, .ref a0), (1, .ref a1), (2, .ref a2), (3, .ref a3), (4, .int x4)] → wb_L_law_1830 G P (wl_L_law_23 G P n23) r M a0 a1 a2 a3 x4 → W p l e (mRm 37 b) s m args below meth c H locs k k (vx_MQ below (mQ G A (mRi P)) (mXC G A (fun _ _ _ => False)) args s b b A) (F0 m 1830 ls []) := by
        intro k r M H locs ls a0 a1 a2 a3 x4 hk S hl h
        unfold wb_L_law_1830 at h
        refine lv_goto (tgt := 2057) hx hb dL_law_1830 (by decide) ?_
        exact j2057 _ _ _ _ _ _ _ _ _ _ _ hk S hl h
      have j1797 : ∀ (k r : Nat) (M : mM) (H : Heap) (locs : List Loc) (ls : Array Slot) (a0 : Nat) (a1 : Nat) (a2 : Nat) (a3 : Nat) (x4 : Int32) (x5 : Int32) (s0 : Nat) (s1 : Int32) (s2 : Int32) (s3 : Int32) (s4 : Int32), k + r ≤ b → mW G A s M H locs → lv_has ls 9 [(0, .ref a0), (1, .ref a1), (2, .ref a2), (3, .ref a3), (4, .int x4), (5, .int x5)] → wb_L_law_1797 G P (wl_L_law_23 G P n23) r M a0 a1 a2 a3 x4 x5 s0 s1 s2 s3 s4 → W p l e (mRm 37 b) s m args below meth c H locs k k (vx_MQ below (mQ G A (mRi P)) (mXC G A (fun _ _ _ => False)) args s b b A) (F0 m 1797 ls [.int s4, .int s3, .int s2, .int s1, .ref s0]) := by
        intro k r M H locs ls a0 a1 a2 a3 x4 x5 s0 s1 s2 s3 s4 hk S hl h
        unfold wb_L_law_1797 at h
        obtain ⟨hI, h⟩ := h
        obtain ⟨N608, N609, eM9, hdj, hN9⟩ := h
        subst eM9
        have h := hN9
        refine mm_V (As := [.int s1, .int s2, .int s3, .int s4]) (rest := []) C S hl.1 (mMet.frame hdj (wk_X4_numbers hst0 h)) (T := TX4) rfl hI (lw_V q2045 q2046 q2047 q58 q2048) rfl pd_X4_numbers ⟨Nat.le_of_ble_eq_true rfl, Nat.le_of_ble_eq_true rfl⟩ rfl rfl (Nat.le_of_ble_eq_true rfl) dL_law_1797 rfl rfl hk (Nat.zero_add _) (fun v9 M600 H locs hP S hk => ?_) (fun E q ce M9 H9 locs9 hX => by obtain ⟨_, h9, _⟩ := hX; exact h9.elim)
        obtain ⟨_, ⟨v601, rfl, h⟩, eM8, hd9⟩ := hP
        have h := h hd9
        rw [← eM8] at h
        refine W.eq (g2 := F0 m 1800 ls [.int v601]) rfl ?_
        refine lv_istore (lv' := [(6, .int v601), (0, .ref a0), (1, .ref a1), (2, .ref a2), (3, .ref a3), (4, .int x4), (5, .int x5)]) hx hb dL_law_1800 hl (by decide) rfl (fun ls hl => ?_)
        refine lv_aload_n hx hb dL_law_1802 rfl (lv_at hl 3 rfl) ?_
        obtain ⟨hI, h⟩ := h
        obtain ⟨N605, N606, eM9, hdj, hN9⟩ := h
        subst eM9
        have h := hN9
        refine mm_V (As := []) (rest := []) C S hl.1 (mMet.frame hdj (wk_X4_thrown hst0 h)) (T := TX4) rfl hI (lw_V q1819 q1820 q1821 q58 q1822) rfl pd_X4_thrown ⟨Nat.le_of_ble_eq_true rfl, Nat.le_of_ble_eq_true rfl⟩ rfl rfl (Nat.le_of_ble_eq_true rfl) dL_law_1803 rfl rfl hk (Nat.zero_add _) (fun v9 M602 H locs hP S hk => ?_) (fun E q ce M9 H9 locs9 hX => by obtain ⟨_, h9, _⟩ := hX; exact h9.elim)
        obtain ⟨_, ⟨v603, rfl, h⟩, eM8, hd9⟩ := hP
        have h := h hd9
        rw [← eM8] at h
        refine W.eq (g2 := F0 m 1806 ls [.int v603]) rfl ?_
        refine lv_iload hx hb dL_law_1806 (lv_at hl 6 rfl) ?_
        refine lv_icmp_eq (tgt := 1813) hx hb dL_law_1808 (by decide) (fun c9 => ?_) (fun c9 => ?_)
        · have h := h.1 c9
          refine lv_iload hx hb dL_law_1813 (lv_at hl 6 rfl) ?_
          refine lv_if_ne (tgt := 1830) hx hb dL_law_1815 (by decide) (fun c9 => ?_) (fun c9 => ?_)
          · have h := h.1 c9
            exact j1830 _ _ _ _ _ _ _ _ _ _ _ hk S (lv_sub hl [1, 2, 3, 4, 5] rfl) h
          · have h := h.2 c9
            refine lv_aload_n hx hb dL_law_1818 rfl (lv_at hl 4 rfl) ?_
            refine lv_iconst (v := 0) hx hb dL_law_1819 (by decide) ?_
            refine mm_lald C S h dL_law_1820 (fun v604 h => ?_)
            refine lv_iload hx hb dL_law_1821 (lv_at hl 0 rfl) ?_
            refine lv_i2l hx hb dL_law_1823 rfl ?_
            refine W.lcmp hx hb dL_law_1824 ?_
            refine lv_if_eq (tgt := 1830) hx hb dL_law_1825 (by decide) (fun c9 => ?_) (fun c9 => ?_)
            · have h := h.1 c9
              exact j1830 _ _ _ _ _ _ _ _ _ _ _ hk S (lv_sub hl [1, 2, 3, 4, 5] rfl) h
            · have h := h.2 c9
              refine lv_iconst (v := 0) hx hb dL_law_1828 (by decide) ?_
              exact mm_zret C S hr (Nat.le_trans (Nat.le_add_right _ _) hk) dL_law_1829 h
        · have h := h.2 c9
          refine lv_iconst (v := 0) hx hb dL_law_1811 (by decide) ?_
          exact mm_zret C S hr (Nat.le_trans (Nat.le_add_right _ _) hk) dL_law_1812 h
      have j1758 : ∀ (k r : Nat) (M : mM) (H : Heap) (locs : List Loc) (ls : Array Slot) (a0 : Nat) (a1 : Nat) (a2 : Nat) (a3 : Nat) (x4 : Int32) (s0 : Nat) (s1 : Int32) (s2 : Int32) (s3 : Int32) (s4 : Int32), k + r ≤ b → mW G A s M H locs → lv_has ls 9 [(0, .ref a0), (1, .ref a1), (2, .ref a2), (3, .ref a3), (4, .int x4)] → wb_L_law_1758 G P (wl_L_law_23 G P n23) r M a0 a1 a2 a3 x4 s0 s1 s2 s3 s4 → W p l e (mRm 37 b) s m args below meth c H locs k k (vx_MQ below (mQ G A (mRi P)) (mXC G A (fun _ _ _ => False)) args s b b A) (F0 m 1758 ls [.int s4, .int s3, .int s2, .int s1, .ref s0]) := by
        intro k r M H locs ls a0 a1 a2 a3 x4 s0 s1 s2 s3 s4 hk S hl h
        unfold wb_L_law_1758 at h
        refine lv_aload_n hx hb dL_law_1758 rfl (lv_at hl 3 rfl) ?_
        obtain ⟨b559, r560, hb9, h⟩ := h
        obtain ⟨N566, N567, eM9, hdj, hN9⟩ := h
        subst eM9
        have h := hN9
        refine mm_SX (As := [.ref s0, .int s1, .int s2, .int s3, .int s4, .ref a3]) (rest := []) C S hl.1 (mMet.frame hdj (wk_X0_numbers hst0 h)) (lw_SW q1638 q1639 q47 q1640) pd_X0_numbers ⟨Nat.le_of_ble_eq_true rfl, Nat.le_of_ble_eq_true rfl⟩ rfl rfl (Nat.le_of_ble_eq_true rfl) dL_law_1759 rfl rfl hk hb9 (fun v9 M558 H locs hP S hk => ?_) (fun E q ce M9 H9 locs9 hX => by obtain ⟨_, h9, _⟩ := hX; exact h9.elim)
        obtain ⟨_, ⟨v561, rfl, h⟩, eM8, hd9⟩ := hP
        have h := h hd9
        rw [← eM8] at h
        refine W.eq (g2 := F0 m 1762 ls [.int v561]) rfl ?_
        refine lv_istore (lv' := [(5, .int v561), (0, .ref a0), (1, .ref a1), (2, .ref a2), (3, .ref a3), (4, .int x4)]) hx hb dL_law_1762 hl (by decide) rfl (fun ls hl => ?_)
        refine lv_aload_n hx hb dL_law_1764 rfl (lv_at hl 3 rfl) ?_
        refine lv_aload_n hx hb dL_law_1765 rfl (lv_at hl 1 rfl) ?_
        refine lv_iload hx hb dL_law_1766 (lv_at hl 5 rfl) ?_
        refine lv_iconst (v := 1) hx hb dL_law_1768 (by decide) ?_
        refine lv_iadd hx hb dL_law_1769 ?_
        refine mm_iald13 C S h dL_law_1770 (fun v562 h => ?_)
        refine lv_aload_n hx hb dL_law_1771 rfl (lv_at hl 1 rfl) ?_
        refine lv_iload hx hb dL_law_1772 (lv_at hl 5 rfl) ?_
        refine lv_iconst (v := 2) hx hb dL_law_1774 (by decide) ?_
        refine lv_iadd hx hb dL_law_1775 ?_
        refine mm_iald13 C S h dL_law_1776 (fun v563 h => ?_)
        refine lv_aload_n hx hb dL_law_1777 rfl (lv_at hl 1 rfl) ?_
        refine lv_iload hx hb dL_law_1778 (lv_at hl 5 rfl) ?_
        refine lv_iconst (v := 3) hx hb dL_law_1780 (by decide) ?_
        refine lv_iadd hx hb dL_law_1781 ?_
        refine mm_iald13 C S h dL_law_1782 (fun v564 h => ?_)
        refine lv_aload_n hx hb dL_law_1783 rfl (lv_at hl 1 rfl) ?_
        refine lv_iload hx hb dL_law_1784 (lv_at hl 5 rfl) ?_
        refine lv_iconst (v := 4) hx hb dL_law_1786 (by decide) ?_
        refine lv_iadd hx hb dL_law_1787 ?_
        refine mm_iald13 C S h dL_law_1788 (fun v565 h => ?_)
        refine lv_if_eq (tgt := 1796) hx hb dL_law_1789 (by decide) (fun c9 => ?_) (fun c9 => ?_)
        · have h := h.1 c9
          refine lv_iconst (v := 0) hx hb dL_law_1796 (by decide) ?_
          exact j1797 _ _ _ _ _ _ _ _ _ _ _ _ _ _ _ _ _ hk S (lv_sub hl [1, 2, 3, 4, 5, 0] rfl) h
        · have h := h.2 c9
          refine lv_iconst (v := 1) hx hb dL_law_1792 (by decide) ?_
          refine lv_goto (tgt := 1797) hx hb dL_law_1793 (by decide) ?_
          exact j1797 _ _ _ _ _ _ _ _ _ _ _ _ _ _ _ _ _ hk S (lv_sub hl [1, 2, 3, 4, 5, 0] rfl) h
      have j1913 : ∀ (k r : Nat) (M : mM) (H : Heap) (locs : List Loc) (ls : Array Slot) (a0 : Nat) (a1 : Nat) (a2 : Nat) (a3 : Nat) (x4 : Int32), k + r ≤ b → mW G A s M H locs → lv_has ls 9 [(0, .ref a0), (1, .ref a1), (2, .ref a2), (3, .ref a3), (4, .int x4)] → wb_L_law_1913 G P (wl_L_law_23 G P n23) r M a0 a1 a2 a3 x4 → W p l e (mRm 37 b) s m args below meth c H locs k k (vx_MQ below (mQ G A (mRi P)) (mXC G A (fun _ _ _ => False)) args s b b A) (F0 m 1913 ls []) := by
        intro k r M H locs ls a0 a1 a2 a3 x4 hk S hl h
        unfold wb_L_law_1913 at h
        refine lv_goto (tgt := 2057) hx hb dL_law_1913 (by decide) ?_
        exact j2057 _ _ _ _ _ _ _ _ _ _ _ hk S hl h
      have j1881 : ∀ (k r : Nat) (M : mM) (H : Heap) (locs : List Loc) (ls : Array Slot) (a0 : Nat) (a1 : Nat) (a2 : Nat) (a3 : Nat) (x4 : Int32) (x5 : Int32) (s0 : Nat) (s1 : Int32) (s2 : Int32), k + r ≤ b → mW G A s M H locs → lv_has ls 9 [(0, .ref a0), (1, .ref a1), (2, .ref a2), (3, .ref a3), (4, .int x4), (5, .int x5)] → wb_L_law_1881 G P (wl_L_law_23 G P n23) r M a0 a1 a2 a3 x4 x5 s0 s1 s2 → W p l e (mRm 37 b) s m args below meth c H locs k k (vx_MQ below (mQ G A (mRi P)) (mXC G A (fun _ _ _ => False)) args s b b A) (F0 m 1881 ls [.int s2, .int s1, .ref s0]) := by
        intro k r M H locs ls a0 a1 a2 a3 x4 x5 s0 s1 s2 hk S hl h
        unfold wb_L_law_1881 at h
        obtain ⟨hI, h⟩ := h
        obtain ⟨N619, N620, eM9, hdj, hN9⟩ := h
        subst eM9
        have h := hN9
        refine mm_V (As := [.int s1, .int s2]) (rest := []) C S hl.1 (mMet.frame hdj (wk_X4_total hst0 h)) (T := TX4) rfl hI (lw_V q2049 q2050 q2051 q58 q2052) rfl pd_X4_total ⟨Nat.le_of_ble_eq_true rfl, Nat.le_of_ble_eq_true rfl⟩ rfl rfl (Nat.le_of_ble_eq_true rfl) dL_law_1881 rfl rfl hk (Nat.zero_add _) (fun v9 M611 H locs hP S hk => ?_) (fun E q ce M9 H9 locs9 hX => by obtain ⟨_, h9, _⟩ := hX; exact h9.elim)
        obtain ⟨_, ⟨g612, rfl, h⟩, eM8, hd9⟩ := hP
        have h := h hd9
        rw [← eM8] at h
        refine W.eq (g2 := F0 m 1884 ls [.long g612]) rfl ?_
        refine lv_lstore (lv' := [(6, .long g612), (0, .ref a0), (1, .ref a1), (2, .ref a2), (3, .ref a3), (4, .int x4), (5, .int x5)]) hx hb dL_law_1884 hl (by decide) rfl (fun ls hl => ?_)
        refine lv_aload_n hx hb dL_law_1886 rfl (lv_at hl 3 rfl) ?_
        obtain ⟨hI, h⟩ := h
        obtain ⟨N616, N617, eM9, hdj, hN9⟩ := h
        subst eM9
        have h := hN9
        refine mm_V (As := []) (rest := []) C S hl.1 (mMet.frame hdj (wk_X4_thrown hst0 h)) (T := TX4) rfl hI (lw_V q1819 q1820 q1821 q58 q1822) rfl pd_X4_thrown ⟨Nat.le_of_ble_eq_true rfl, Nat.le_of_ble_eq_true rfl⟩ rfl rfl (Nat.le_of_ble_eq_true rfl) dL_law_1887 rfl rfl hk (Nat.zero_add _) (fun v9 M613 H locs hP S hk => ?_) (fun E q ce M9 H9 locs9 hX => by obtain ⟨_, h9, _⟩ := hX; exact h9.elim)
        obtain ⟨_, ⟨v614, rfl, h⟩, eM8, hd9⟩ := hP
        have h := h hd9
        rw [← eM8] at h
        refine W.eq (g2 := F0 m 1890 ls [.int v614]) rfl ?_
        refine lv_iload hx hb dL_law_1890 (lv_at hl 6 rfl) ?_
        refine lv_icmp_eq (tgt := 1897) hx hb dL_law_1892 (by decide) (fun c9 => ?_) (fun c9 => ?_)
        · have h := h.1 c9
          refine lv_iload hx hb dL_law_1897 (lv_at hl 6 rfl) ?_
          refine lv_if_ne (tgt := 1913) hx hb dL_law_1899 (by decide) (fun c9 => ?_) (fun c9 => ?_)
          · have h := h.1 c9
            exact j1913 _ _ _ _ _ _ _ _ _ _ _ hk S (lv_sub hl [1, 2, 3, 4, 5] rfl) h
          · have h := h.2 c9
            refine lv_aload_n hx hb dL_law_1902 rfl (lv_at hl 4 rfl) ?_
            refine lv_iconst (v := 0) hx hb dL_law_1903 (by decide) ?_
            refine mm_lald C S h dL_law_1904 (fun v615 h => ?_)
            refine lv_lload hx hb dL_law_1905 (lv_at hl 0 rfl) ?_
            refine W.lcmp hx hb dL_law_1907 ?_
            refine lv_if_eq (tgt := 1913) hx hb dL_law_1908 (by decide) (fun c9 => ?_) (fun c9 => ?_)
            · have h := h.1 c9
              exact j1913 _ _ _ _ _ _ _ _ _ _ _ hk S (lv_sub hl [1, 2, 3, 4, 5] rfl) h
            · have h := h.2 c9
              refine lv_iconst (v := 0) hx hb dL_law_1911 (by decide) ?_
              exact mm_zret C S hr (Nat.le_trans (Nat.le_add_right _ _) hk) dL_law_1912 h
        · have h := h.2 c9
          refine lv_iconst (v := 0) hx hb dL_law_1895 (by decide) ?_
          exact mm_zret C S hr (Nat.le_trans (Nat.le_add_right _ _) hk) dL_law_1896 h
      have j1854 : ∀ (k r : Nat) (M : mM) (H : Heap) (locs : List Loc) (ls : Array Slot) (a0 : Nat) (a1 : Nat) (a2 : Nat) (a3 : Nat) (x4 : Int32) (s0 : Nat) (s1 : Int32) (s2 : Int32), k + r ≤ b → mW G A s M H locs → lv_has ls 9 [(0, .ref a0), (1, .ref a1), (2, .ref a2), (3, .ref a3), (4, .int x4)] → wb_L_law_1854 G P (wl_L_law_23 G P n23) r M a0 a1 a2 a3 x4 s0 s1 s2 → W p l e (mRm 37 b) s m args below meth c H locs k k (vx_MQ below (mQ G A (mRi P)) (mXC G A (fun _ _ _ => False)) args s b b A) (F0 m 1854 ls [.int s2, .int s1, .ref s0]) := by
        intro k r M H locs ls a0 a1 a2 a3 x4 s0 s1 s2 hk S hl h
        unfold wb_L_law_1854 at h
        refine lv_aload_n hx hb dL_law_1854 rfl (lv_at hl 3 rfl) ?_
        obtain ⟨b570, r571, hb9, h⟩ := h
        obtain ⟨N575, N576, eM9, hdj, hN9⟩ := h
        subst eM9
        have h := hN9
        refine mm_SX (As := [.ref s0, .int s1, .int s2, .ref a3]) (rest := []) C S hl.1 (mMet.frame hdj (wk_X0_total hst0 h)) (lw_SW q1645 q1646 q47 q1647) pd_X0_total ⟨Nat.le_of_ble_eq_true rfl, Nat.le_of_ble_eq_true rfl⟩ rfl rfl (Nat.le_of_ble_eq_true rfl) dL_law_1855 rfl rfl hk hb9 (fun v9 M569 H locs hP S hk => ?_) (fun E q ce M9 H9 locs9 hX => by obtain ⟨_, h9, _⟩ := hX; exact h9.elim)
        obtain ⟨_, ⟨v572, rfl, h⟩, eM8, hd9⟩ := hP
        have h := h hd9
        rw [← eM8] at h
        refine W.eq (g2 := F0 m 1858 ls [.int v572]) rfl ?_
        refine lv_istore (lv' := [(5, .int v572), (0, .ref a0), (1, .ref a1), (2, .ref a2), (3, .ref a3), (4, .int x4)]) hx hb dL_law_1858 hl (by decide) rfl (fun ls hl => ?_)
        refine lv_aload_n hx hb dL_law_1860 rfl (lv_at hl 3 rfl) ?_
        refine lv_aload_n hx hb dL_law_1861 rfl (lv_at hl 1 rfl) ?_
        refine lv_iload hx hb dL_law_1862 (lv_at hl 5 rfl) ?_
        refine lv_iconst (v := 1) hx hb dL_law_1864 (by decide) ?_
        refine lv_iadd hx hb dL_law_1865 ?_
        refine mm_iald13 C S h dL_law_1866 (fun v573 h => ?_)
        refine lv_aload_n hx hb dL_law_1867 rfl (lv_at hl 1 rfl) ?_
        refine lv_iload hx hb dL_law_1868 (lv_at hl 5 rfl) ?_
        refine lv_iconst (v := 2) hx hb dL_law_1870 (by decide) ?_
        refine lv_iadd hx hb dL_law_1871 ?_
        refine mm_iald13 C S h dL_law_1872 (fun v574 h => ?_)
        refine lv_if_eq (tgt := 1880) hx hb dL_law_1873 (by decide) (fun c9 => ?_) (fun c9 => ?_)
        · have h := h.1 c9
          refine lv_iconst (v := 0) hx hb dL_law_1880 (by decide) ?_
          exact j1881 _ _ _ _ _ _ _ _ _ _ _ _ _ _ _ hk S (lv_sub hl [1, 2, 3, 4, 5, 0] rfl) h
        · have h := h.2 c9
          refine lv_iconst (v := 1) hx hb dL_law_1876 (by decide) ?_
          refine lv_goto (tgt := 1881) hx hb dL_law_1877 (by decide) ?_
          exact j1881 _ _ _ _ _ _ _ _ _ _ _ _ _ _ _ hk S (lv_sub hl [1, 2, 3, 4, 5, 0] rfl) h
      have j1957 : ∀ (k r : Nat) (M : mM) (H : Heap) (locs : List Loc) (ls : Array Slot) (a0 : Nat) (a1 : Nat) (a2 : Nat) (a3 : Nat) (x4 : Int32), k + r ≤ b → mW G A s M H locs → lv_has ls 9 [(0, .ref a0), (1, .ref a1), (2, .ref a2), (3, .ref a3), (4, .int x4)] → wb_L_law_1957 G P (wl_L_law_23 G P n23) r M a0 a1 a2 a3 x4 → W p l e (mRm 37 b) s m args below meth c H locs k k (vx_MQ below (mQ G A (mRi P)) (mXC G A (fun _ _ _ => False)) args s b b A) (F0 m 1957 ls []) := by
        intro k r M H locs ls a0 a1 a2 a3 x4 hk S hl h
        unfold wb_L_law_1957 at h
        refine lv_goto (tgt := 2057) hx hb dL_law_1957 (by decide) ?_
        exact j2057 _ _ _ _ _ _ _ _ _ _ _ hk S hl h
      have j2011 : ∀ (k r : Nat) (M : mM) (H : Heap) (locs : List Loc) (ls : Array Slot) (a0 : Nat) (a1 : Nat) (a2 : Nat) (a3 : Nat) (x4 : Int32), k + r ≤ b → mW G A s M H locs → lv_has ls 9 [(0, .ref a0), (1, .ref a1), (2, .ref a2), (3, .ref a3), (4, .int x4)] → wb_L_law_2011 G P (wl_L_law_23 G P n23) r M a0 a1 a2 a3 x4 → W p l e (mRm 37 b) s m args below meth c H locs k k (vx_MQ below (mQ G A (mRi P)) (mXC G A (fun _ _ _ => False)) args s b b A) (F0 m 2011 ls []) := by
        intro k r M H locs ls a0 a1 a2 a3 x4 hk S hl h
        unfold wb_L_law_2011 at h
        refine lv_goto (tgt := 2057) hx hb dL_law_2011 (by decide) ?_
        exact j2057 _ _ _ _ _ _ _ _ _ _ _ hk S hl h
      have j2054 : ∀ (k r : Nat) (M : mM) (H : Heap) (locs : List Loc) (ls : Array Slot) (a0 : Nat) (a1 : Nat) (a2 : Nat) (a3 : Nat) (x4 : Int32), k + r ≤ b → mW G A s M H locs → lv_has ls 9 [(0, .ref a0), (1, .ref a1), (2, .ref a2), (3, .ref a3), (4, .int x4)] → wb_L_law_2054 G P (wl_L_law_23 G P n23) r M a0 a1 a2 a3 x4 → W p l e (mRm 37 b) s m args below meth c H locs k k (vx_MQ below (mQ G A (mRi P)) (mXC G A (fun _ _ _ => False)) args s b b A) (F0 m 2054 ls []) := by
        intro k r M H locs ls a0 a1 a2 a3 x4 hk S hl h
        unfold wb_L_law_2054 at h
        refine lv_goto (tgt := 2057) hx hb dL_law_2054 (by decide) ?_
        exact j2057 _ _ _ _ _ _ _ _ _ _ _ hk S hl h
      intro k r M H locs ls a0 a1 a2 a3 x4 hk S hl h
      rw [wl_L_law_23] at h
      refine lv_iload hx hb dL_law_23 (lv_at hl 4 rfl) ?_
      refine lv_aload_n hx hb dL_law_25 rfl (lv_at hl 0 rfl) ?_
      refine mm_alen C S h dL_law_26 (fun v22 h => ?_)
      refine lv_bipush (v := 6) hx hb dL_law_27 (by decide) ?_
      refine lv_isub hx hb dL_law_29 ?_
      refine lv_icmp_gt (tgt := 2063) hx hb dL_law_30 (by decide) (fun c9 => ?_) (fun c9 => ?_)
      · have h := h.1 c9
        refine lv_iconst (v := 1) hx hb dL_law_2063 (by decide) ?_
        exact mm_zret C S hr (Nat.le_trans (Nat.le_add_right _ _) hk) dL_law_2064 h
      · have h := h.2 c9
        refine lv_aload_n hx hb dL_law_33 rfl (lv_at hl 0 rfl) ?_
        refine lv_iload hx hb dL_law_34 (lv_at hl 4 rfl) ?_
        refine mm_iald13 C S h dL_law_36 (fun v23 h => ?_)
        refine lv_bipush (v := 31) hx hb dL_law_37 (by decide) ?_
        refine lv_iand hx hb dL_law_39 ?_
        by_cases c0 : (v23 &&& 31) = 0
        · have h := h.1 c0
          rw [c0]
          refine lv_tableIn (tgt := 176) hx hb dL_law_40 (by decide) (by decide) rfl (by decide) ?_
          refine lv_aload_n hx hb dL_law_176 rfl (lv_at hl 1 rfl) ?_
          refine lv_aload_n hx hb dL_law_177 rfl (lv_at hl 0 rfl) ?_
          refine lv_iload hx hb dL_law_178 (lv_at hl 4 rfl) ?_
          refine lv_iconst (v := 1) hx hb dL_law_180 (by decide) ?_
          refine lv_iadd hx hb dL_law_181 ?_
          refine mm_iald13 C S h dL_law_182 (fun v24 h => ?_)
          refine lv_aload_n hx hb dL_law_183 rfl (lv_at hl 0 rfl) ?_
          refine lv_iload hx hb dL_law_184 (lv_at hl 4 rfl) ?_
          refine lv_iconst (v := 2) hx hb dL_law_186 (by decide) ?_
          refine lv_iadd hx hb dL_law_187 ?_
          refine mm_iald13 C S h dL_law_188 (fun v25 h => ?_)
          refine lv_aload_n hx hb dL_law_189 rfl (lv_at hl 0 rfl) ?_
          refine lv_iload hx hb dL_law_190 (lv_at hl 4 rfl) ?_
          refine lv_iconst (v := 3) hx hb dL_law_192 (by decide) ?_
          refine lv_iadd hx hb dL_law_193 ?_
          refine mm_iald13 C S h dL_law_194 (fun v26 h => ?_)
          refine lv_aload_n hx hb dL_law_195 rfl (lv_at hl 0 rfl) ?_
          refine lv_iload hx hb dL_law_196 (lv_at hl 4 rfl) ?_
          refine lv_iconst (v := 4) hx hb dL_law_198 (by decide) ?_
          refine lv_iadd hx hb dL_law_199 ?_
          refine mm_iald13 C S h dL_law_200 (fun v27 h => ?_)
          refine lv_aload_n hx hb dL_law_201 rfl (lv_at hl 3 rfl) ?_
          obtain ⟨b29, r30, hb9, h⟩ := h
          obtain ⟨N47, N48, eM9, hdj, hN9⟩ := h
          subst eM9
          have h := hN9
          refine mm_SX (As := [.ref a1, .int v24, .int v25, .int v26, .int v27, .ref a3]) (rest := []) C S hl.1 (mMet.frame hdj (wk_X0_setCell hst0 h)) (lw_SW q428 q429 q47 q430) pd_X0_setCell ⟨Nat.le_of_ble_eq_true rfl, Nat.le_of_ble_eq_true rfl⟩ rfl rfl (Nat.le_of_ble_eq_true rfl) dL_law_202 rfl rfl hk hb9 (fun v9 M28 H locs hP S hk => ?_) (fun E q ce M9 H9 locs9 hX => by obtain ⟨_, h9, _⟩ := hX; exact h9.elim)
          obtain ⟨_, ⟨v31, rfl, h⟩, eM8, hd9⟩ := hP
          have h := h hd9
          rw [← eM8] at h
          refine W.eq (g2 := F0 m 205 ls [.int v31]) rfl ?_
          refine lv_istore (lv' := [(5, .int v31), (0, .ref a0), (1, .ref a1), (2, .ref a2), (3, .ref a3), (4, .int x4)]) hx hb dL_law_205 hl (by decide) rfl (fun ls hl => ?_)
          refine lv_aload_n hx hb dL_law_207 rfl (lv_at hl 3 rfl) ?_
          refine lv_aload_n hx hb dL_law_208 rfl (lv_at hl 1 rfl) ?_
          refine lv_iload hx hb dL_law_209 (lv_at hl 5 rfl) ?_
          refine lv_iconst (v := 1) hx hb dL_law_211 (by decide) ?_
          refine lv_iadd hx hb dL_law_212 ?_
          refine mm_iald13 C S h dL_law_213 (fun v32 h => ?_)
          refine lv_aload_n hx hb dL_law_214 rfl (lv_at hl 1 rfl) ?_
          refine lv_iload hx hb dL_law_215 (lv_at hl 5 rfl) ?_
          refine lv_iconst (v := 2) hx hb dL_law_217 (by decide) ?_
          refine lv_iadd hx hb dL_law_218 ?_
          refine mm_iald13 C S h dL_law_219 (fun v33 h => ?_)
          refine lv_aload_n hx hb dL_law_220 rfl (lv_at hl 1 rfl) ?_
          refine lv_iload hx hb dL_law_221 (lv_at hl 5 rfl) ?_
          refine lv_iconst (v := 3) hx hb dL_law_223 (by decide) ?_
          refine lv_iadd hx hb dL_law_224 ?_
          refine mm_iald13 C S h dL_law_225 (fun v34 h => ?_)
          refine lv_aload_n hx hb dL_law_226 rfl (lv_at hl 1 rfl) ?_
          refine lv_iload hx hb dL_law_227 (lv_at hl 5 rfl) ?_
          refine lv_iconst (v := 4) hx hb dL_law_229 (by decide) ?_
          refine lv_iadd hx hb dL_law_230 ?_
          refine mm_iald13 C S h dL_law_231 (fun v35 h => ?_)
          obtain ⟨hI, h⟩ := h
          obtain ⟨N44, N45, eM9, hdj, hN9⟩ := h
          subst eM9
          have h := hN9
          refine mm_V (As := [.int v32, .int v33, .int v34, .int v35]) (rest := []) C S hl.1 (mMet.frame hdj (wk_X4_setCell hst0 h)) (T := TX4) rfl hI (lw_V q1823 q1824 q1825 q58 q1826) rfl pd_X4_setCell ⟨Nat.le_of_ble_eq_true rfl, Nat.le_of_ble_eq_true rfl⟩ rfl rfl (Nat.le_of_ble_eq_true rfl) dL_law_232 rfl rfl hk (Nat.zero_add _) (fun v9 M36 H locs hP S hk => ?_) (fun E q ce M9 H9 locs9 hX => by obtain ⟨_, h9, _⟩ := hX; exact h9.elim)
          obtain ⟨_, ⟨v37, rfl, h⟩, eM8, hd9⟩ := hP
          have h := h hd9
          rw [← eM8] at h
          refine W.eq (g2 := F0 m 235 ls [.int v37]) rfl ?_
          refine lv_istore (lv' := [(6, .int v37), (5, .int v31), (0, .ref a0), (1, .ref a1), (2, .ref a2), (3, .ref a3), (4, .int x4)]) hx hb dL_law_235 hl (by decide) rfl (fun ls hl => ?_)
          refine lv_aload_n hx hb dL_law_237 rfl (lv_at hl 4 rfl) ?_
          obtain ⟨hI, h⟩ := h
          obtain ⟨N41, N42, eM9, hdj, hN9⟩ := h
          subst eM9
          have h := hN9
          refine mm_V (As := []) (rest := []) C S hl.1 (mMet.frame hdj (wk_X4_thrown hst0 h)) (T := TX4) rfl hI (lw_V q1819 q1820 q1821 q58 q1822) rfl pd_X4_thrown ⟨Nat.le_of_ble_eq_true rfl, Nat.le_of_ble_eq_true rfl⟩ rfl rfl (Nat.le_of_ble_eq_true rfl) dL_law_238 rfl rfl hk (Nat.zero_add _) (fun v9 M38 H locs hP S hk => ?_) (fun E q ce M9 H9 locs9 hX => by obtain ⟨_, h9, _⟩ := hX; exact h9.elim)
          obtain ⟨_, ⟨v39, rfl, h⟩, eM8, hd9⟩ := hP
          have h := h hd9
          rw [← eM8] at h
          refine W.eq (g2 := F0 m 241 ls [.int v39]) rfl ?_
          refine lv_iload hx hb dL_law_241 (lv_at hl 1 rfl) ?_
          refine lv_icmp_eq (tgt := 248) hx hb dL_law_243 (by decide) (fun c9 => ?_) (fun c9 => ?_)
          · have h := h.1 c9
            refine lv_iload hx hb dL_law_248 (lv_at hl 1 rfl) ?_
            refine lv_if_ne (tgt := 265) hx hb dL_law_250 (by decide) (fun c9 => ?_) (fun c9 => ?_)
            · have h := h.1 c9
              exact j265 _ _ _ _ _ _ _ _ _ _ _ hk S (lv_sub hl [2, 3, 4, 5, 6] rfl) h
            · have h := h.2 c9
              refine lv_aload_n hx hb dL_law_253 rfl (lv_at hl 5 rfl) ?_
              refine lv_iconst (v := 0) hx hb dL_law_254 (by decide) ?_
              refine mm_lald C S h dL_law_255 (fun v40 h => ?_)
              refine lv_iload hx hb dL_law_256 (lv_at hl 0 rfl) ?_
              refine lv_i2l hx hb dL_law_258 rfl ?_
              refine W.lcmp hx hb dL_law_259 ?_
              refine lv_if_eq (tgt := 265) hx hb dL_law_260 (by decide) (fun c9 => ?_) (fun c9 => ?_)
              · have h := h.1 c9
                exact j265 _ _ _ _ _ _ _ _ _ _ _ hk S (lv_sub hl [2, 3, 4, 5, 6] rfl) h
              · have h := h.2 c9
                refine lv_iconst (v := 0) hx hb dL_law_263 (by decide) ?_
                exact mm_zret C S hr (Nat.le_trans (Nat.le_add_right _ _) hk) dL_law_264 h
          · have h := h.2 c9
            refine lv_iconst (v := 0) hx hb dL_law_246 (by decide) ?_
            exact mm_zret C S hr (Nat.le_trans (Nat.le_add_right _ _) hk) dL_law_247 h
        by_cases c1 : (v23 &&& 31) = 1
        · have h := h.2.1 c1
          rw [c1]
          refine lv_tableIn (tgt := 268) hx hb dL_law_40 (by decide) (by decide) rfl (by decide) ?_
          refine lv_aload_n hx hb dL_law_268 rfl (lv_at hl 1 rfl) ?_
          refine lv_aload_n hx hb dL_law_269 rfl (lv_at hl 0 rfl) ?_
          refine lv_iload hx hb dL_law_270 (lv_at hl 4 rfl) ?_
          refine lv_iconst (v := 1) hx hb dL_law_272 (by decide) ?_
          refine lv_iadd hx hb dL_law_273 ?_
          refine mm_iald13 C S h dL_law_274 (fun v50 h => ?_)
          refine lv_aload_n hx hb dL_law_275 rfl (lv_at hl 0 rfl) ?_
          refine lv_iload hx hb dL_law_276 (lv_at hl 4 rfl) ?_
          refine lv_iconst (v := 2) hx hb dL_law_278 (by decide) ?_
          refine lv_iadd hx hb dL_law_279 ?_
          refine mm_iald13 C S h dL_law_280 (fun v51 h => ?_)
          refine lv_aload_n hx hb dL_law_281 rfl (lv_at hl 3 rfl) ?_
          obtain ⟨b53, r54, hb9, h⟩ := h
          obtain ⟨N69, N70, eM9, hdj, hN9⟩ := h
          subst eM9
          have h := hN9
          refine mm_SX (As := [.ref a1, .int v50, .int v51, .ref a3]) (rest := []) C S hl.1 (mMet.frame hdj (wk_X0_cellAt hst0 h)) (lw_SW q562 q563 q47 q564) pd_X0_cellAt ⟨Nat.le_of_ble_eq_true rfl, Nat.le_of_ble_eq_true rfl⟩ rfl rfl (Nat.le_of_ble_eq_true rfl) dL_law_282 rfl rfl hk hb9 (fun v9 M52 H locs hP S hk => ?_) (fun E q ce M9 H9 locs9 hX => by obtain ⟨_, h9, _⟩ := hX; exact h9.elim)
          obtain ⟨_, ⟨v55, rfl, h⟩, eM8, hd9⟩ := hP
          have h := h hd9
          rw [← eM8] at h
          refine W.eq (g2 := F0 m 285 ls [.int v55]) rfl ?_
          refine lv_istore (lv' := [(5, .int v55), (0, .ref a0), (1, .ref a1), (2, .ref a2), (3, .ref a3), (4, .int x4)]) hx hb dL_law_285 hl (by decide) rfl (fun ls hl => ?_)
          refine lv_aload_n hx hb dL_law_287 rfl (lv_at hl 3 rfl) ?_
          refine lv_aload_n hx hb dL_law_288 rfl (lv_at hl 1 rfl) ?_
          refine lv_iload hx hb dL_law_289 (lv_at hl 5 rfl) ?_
          refine lv_iconst (v := 1) hx hb dL_law_291 (by decide) ?_
          refine lv_iadd hx hb dL_law_292 ?_
          refine mm_iald13 C S h dL_law_293 (fun v56 h => ?_)
          refine lv_aload_n hx hb dL_law_294 rfl (lv_at hl 1 rfl) ?_
          refine lv_iload hx hb dL_law_295 (lv_at hl 5 rfl) ?_
          refine lv_iconst (v := 2) hx hb dL_law_297 (by decide) ?_
          refine lv_iadd hx hb dL_law_298 ?_
          refine mm_iald13 C S h dL_law_299 (fun v57 h => ?_)
          obtain ⟨hI, h⟩ := h
          obtain ⟨N66, N67, eM9, hdj, hN9⟩ := h
          subst eM9
          have h := hN9
          refine mm_V (As := [.int v56, .int v57]) (rest := []) C S hl.1 (mMet.frame hdj (wk_X4_cellAt hst0 h)) (T := TX4) rfl hI (lw_V q1840 q1841 q1842 q58 q1843) rfl pd_X4_cellAt ⟨Nat.le_of_ble_eq_true rfl, Nat.le_of_ble_eq_true rfl⟩ rfl rfl (Nat.le_of_ble_eq_true rfl) dL_law_300 rfl rfl hk (Nat.zero_add _) (fun v9 M58 H locs hP S hk => ?_) (fun E q ce M9 H9 locs9 hX => by obtain ⟨_, h9, _⟩ := hX; exact h9.elim)
          obtain ⟨_, ⟨v59, rfl, h⟩, eM8, hd9⟩ := hP
          have h := h hd9
          rw [← eM8] at h
          refine W.eq (g2 := F0 m 303 ls [.int v59]) rfl ?_
          refine lv_istore (lv' := [(6, .int v59), (5, .int v55), (0, .ref a0), (1, .ref a1), (2, .ref a2), (3, .ref a3), (4, .int x4)]) hx hb dL_law_303 hl (by decide) rfl (fun ls hl => ?_)
          refine lv_aload_n hx hb dL_law_305 rfl (lv_at hl 4 rfl) ?_
          obtain ⟨hI, h⟩ := h
          obtain ⟨N63, N64, eM9, hdj, hN9⟩ := h
          subst eM9
          have h := hN9
          refine mm_V (As := []) (rest := []) C S hl.1 (mMet.frame hdj (wk_X4_thrown hst0 h)) (T := TX4) rfl hI (lw_V q1819 q1820 q1821 q58 q1822) rfl pd_X4_thrown ⟨Nat.le_of_ble_eq_true rfl, Nat.le_of_ble_eq_true rfl⟩ rfl rfl (Nat.le_of_ble_eq_true rfl) dL_law_306 rfl rfl hk (Nat.zero_add _) (fun v9 M60 H locs hP S hk => ?_) (fun E q ce M9 H9 locs9 hX => by obtain ⟨_, h9, _⟩ := hX; exact h9.elim)
          obtain ⟨_, ⟨v61, rfl, h⟩, eM8, hd9⟩ := hP
          have h := h hd9
          rw [← eM8] at h
          refine W.eq (g2 := F0 m 309 ls [.int v61]) rfl ?_
          refine lv_iload hx hb dL_law_309 (lv_at hl 1 rfl) ?_
          refine lv_icmp_eq (tgt := 316) hx hb dL_law_311 (by decide) (fun c9 => ?_) (fun c9 => ?_)
          · have h := h.1 c9
            refine lv_iload hx hb dL_law_316 (lv_at hl 1 rfl) ?_
            refine lv_if_ne (tgt := 333) hx hb dL_law_318 (by decide) (fun c9 => ?_) (fun c9 => ?_)
            · have h := h.1 c9
              exact j333 _ _ _ _ _ _ _ _ _ _ _ hk S (lv_sub hl [2, 3, 4, 5, 6] rfl) h
            · have h := h.2 c9
              refine lv_aload_n hx hb dL_law_321 rfl (lv_at hl 5 rfl) ?_
              refine lv_iconst (v := 0) hx hb dL_law_322 (by decide) ?_
              refine mm_lald C S h dL_law_323 (fun v62 h => ?_)
              refine lv_iload hx hb dL_law_324 (lv_at hl 0 rfl) ?_
              refine lv_i2l hx hb dL_law_326 rfl ?_
              refine W.lcmp hx hb dL_law_327 ?_
              refine lv_if_eq (tgt := 333) hx hb dL_law_328 (by decide) (fun c9 => ?_) (fun c9 => ?_)
              · have h := h.1 c9
                exact j333 _ _ _ _ _ _ _ _ _ _ _ hk S (lv_sub hl [2, 3, 4, 5, 6] rfl) h
              · have h := h.2 c9
                refine lv_iconst (v := 0) hx hb dL_law_331 (by decide) ?_
                exact mm_zret C S hr (Nat.le_trans (Nat.le_add_right _ _) hk) dL_law_332 h
          · have h := h.2 c9
            refine lv_iconst (v := 0) hx hb dL_law_314 (by decide) ?_
            exact mm_zret C S hr (Nat.le_trans (Nat.le_add_right _ _) hk) dL_law_315 h
        by_cases c2 : (v23 &&& 31) = 2
        · have h := h.2.2.1 c2
          rw [c2]
          refine lv_tableIn (tgt := 336) hx hb dL_law_40 (by decide) (by decide) rfl (by decide) ?_
          refine lv_aload_n hx hb dL_law_336 rfl (lv_at hl 1 rfl) ?_
          refine lv_aload_n hx hb dL_law_337 rfl (lv_at hl 0 rfl) ?_
          refine lv_iload hx hb dL_law_338 (lv_at hl 4 rfl) ?_
          refine lv_iconst (v := 1) hx hb dL_law_340 (by decide) ?_
          refine lv_iadd hx hb dL_law_341 ?_
          refine mm_iald13 C S h dL_law_342 (fun v72 h => ?_)
          refine lv_aload_n hx hb dL_law_343 rfl (lv_at hl 0 rfl) ?_
          refine lv_iload hx hb dL_law_344 (lv_at hl 4 rfl) ?_
          refine lv_iconst (v := 2) hx hb dL_law_346 (by decide) ?_
          refine lv_iadd hx hb dL_law_347 ?_
          refine mm_iald13 C S h dL_law_348 (fun v73 h => ?_)
          refine lv_aload_n hx hb dL_law_349 rfl (lv_at hl 0 rfl) ?_
          refine lv_iload hx hb dL_law_350 (lv_at hl 4 rfl) ?_
          refine lv_iconst (v := 3) hx hb dL_law_352 (by decide) ?_
          refine lv_iadd hx hb dL_law_353 ?_
          refine mm_iald13 C S h dL_law_354 (fun v74 h => ?_)
          refine lv_aload_n hx hb dL_law_355 rfl (lv_at hl 0 rfl) ?_
          refine lv_iload hx hb dL_law_356 (lv_at hl 4 rfl) ?_
          refine lv_iconst (v := 4) hx hb dL_law_358 (by decide) ?_
          refine lv_iadd hx hb dL_law_359 ?_
          refine mm_iald13 C S h dL_law_360 (fun v75 h => ?_)
          refine lv_aload_n hx hb dL_law_361 rfl (lv_at hl 3 rfl) ?_
          obtain ⟨b77, r78, hb9, h⟩ := h
          obtain ⟨N95, N96, eM9, hdj, hN9⟩ := h
          subst eM9
          have h := hN9
          refine mm_SX (As := [.ref a1, .int v72, .int v73, .int v74, .int v75, .ref a3]) (rest := []) C S hl.1 (mMet.frame hdj (wk_X0_setKind hst0 h)) (lw_SW q577 q578 q47 q579) pd_X0_setKind ⟨Nat.le_of_ble_eq_true rfl, Nat.le_of_ble_eq_true rfl⟩ rfl rfl (Nat.le_of_ble_eq_true rfl) dL_law_362 rfl rfl hk hb9 (fun v9 M76 H locs hP S hk => ?_) (fun E q ce M9 H9 locs9 hX => by obtain ⟨_, h9, _⟩ := hX; exact h9.elim)
          obtain ⟨_, ⟨v79, rfl, h⟩, eM8, hd9⟩ := hP
          have h := h hd9
          rw [← eM8] at h
          refine W.eq (g2 := F0 m 365 ls [.int v79]) rfl ?_
          refine lv_istore (lv' := [(5, .int v79), (0, .ref a0), (1, .ref a1), (2, .ref a2), (3, .ref a3), (4, .int x4)]) hx hb dL_law_365 hl (by decide) rfl (fun ls hl => ?_)
          refine lv_aload_n hx hb dL_law_367 rfl (lv_at hl 3 rfl) ?_
          refine lv_aload_n hx hb dL_law_368 rfl (lv_at hl 1 rfl) ?_
          refine lv_iload hx hb dL_law_369 (lv_at hl 5 rfl) ?_
          refine lv_iconst (v := 1) hx hb dL_law_371 (by decide) ?_
          refine lv_iadd hx hb dL_law_372 ?_
          refine mm_iald13 C S h dL_law_373 (fun v80 h => ?_)
          refine lv_aload_n hx hb dL_law_374 rfl (lv_at hl 1 rfl) ?_
          refine lv_iload hx hb dL_law_375 (lv_at hl 5 rfl) ?_
          refine lv_iconst (v := 2) hx hb dL_law_377 (by decide) ?_
          refine lv_iadd hx hb dL_law_378 ?_
          refine mm_iald13 C S h dL_law_379 (fun v81 h => ?_)
          refine lv_aload_n hx hb dL_law_380 rfl (lv_at hl 1 rfl) ?_
          refine lv_iload hx hb dL_law_381 (lv_at hl 5 rfl) ?_
          refine lv_iconst (v := 3) hx hb dL_law_383 (by decide) ?_
          refine lv_iadd hx hb dL_law_384 ?_
          refine mm_iald13 C S h dL_law_385 (fun v82 h => ?_)
          refine lv_aload_n hx hb dL_law_386 rfl (lv_at hl 1 rfl) ?_
          refine lv_iload hx hb dL_law_387 (lv_at hl 5 rfl) ?_
          refine lv_iconst (v := 4) hx hb dL_law_389 (by decide) ?_
          refine lv_iadd hx hb dL_law_390 ?_
          refine mm_iald13 C S h dL_law_391 (fun v83 h => ?_)
          obtain ⟨hI, h⟩ := h
          obtain ⟨N92, N93, eM9, hdj, hN9⟩ := h
          subst eM9
          have h := hN9
          refine mm_V (As := [.int v80, .int v81, .int v82, .int v83]) (rest := []) C S hl.1 (mMet.frame hdj (wk_X4_setKind hst0 h)) (T := TX4) rfl hI (lw_V q1852 q1853 q1854 q58 q1855) rfl pd_X4_setKind ⟨Nat.le_of_ble_eq_true rfl, Nat.le_of_ble_eq_true rfl⟩ rfl rfl (Nat.le_of_ble_eq_true rfl) dL_law_392 rfl rfl hk (Nat.zero_add _) (fun v9 M84 H locs hP S hk => ?_) (fun E q ce M9 H9 locs9 hX => by obtain ⟨_, h9, _⟩ := hX; exact h9.elim)
          obtain ⟨_, ⟨v85, rfl, h⟩, eM8, hd9⟩ := hP
          have h := h hd9
          rw [← eM8] at h
          refine W.eq (g2 := F0 m 395 ls [.int v85]) rfl ?_
          refine lv_istore (lv' := [(6, .int v85), (5, .int v79), (0, .ref a0), (1, .ref a1), (2, .ref a2), (3, .ref a3), (4, .int x4)]) hx hb dL_law_395 hl (by decide) rfl (fun ls hl => ?_)
          refine lv_aload_n hx hb dL_law_397 rfl (lv_at hl 4 rfl) ?_
          obtain ⟨hI, h⟩ := h
          obtain ⟨N89, N90, eM9, hdj, hN9⟩ := h
          subst eM9
          have h := hN9
          refine mm_V (As := []) (rest := []) C S hl.1 (mMet.frame hdj (wk_X4_thrown hst0 h)) (T := TX4) rfl hI (lw_V q1819 q1820 q1821 q58 q1822) rfl pd_X4_thrown ⟨Nat.le_of_ble_eq_true rfl, Nat.le_of_ble_eq_true rfl⟩ rfl rfl (Nat.le_of_ble_eq_true rfl) dL_law_398 rfl rfl hk (Nat.zero_add _) (fun v9 M86 H locs hP S hk => ?_) (fun E q ce M9 H9 locs9 hX => by obtain ⟨_, h9, _⟩ := hX; exact h9.elim)
          obtain ⟨_, ⟨v87, rfl, h⟩, eM8, hd9⟩ := hP
          have h := h hd9
          rw [← eM8] at h
          refine W.eq (g2 := F0 m 401 ls [.int v87]) rfl ?_
          refine lv_iload hx hb dL_law_401 (lv_at hl 1 rfl) ?_
          refine lv_icmp_eq (tgt := 408) hx hb dL_law_403 (by decide) (fun c9 => ?_) (fun c9 => ?_)
          · have h := h.1 c9
            refine lv_iload hx hb dL_law_408 (lv_at hl 1 rfl) ?_
            refine lv_if_ne (tgt := 425) hx hb dL_law_410 (by decide) (fun c9 => ?_) (fun c9 => ?_)
            · have h := h.1 c9
              exact j425 _ _ _ _ _ _ _ _ _ _ _ hk S (lv_sub hl [2, 3, 4, 5, 6] rfl) h
            · have h := h.2 c9
              refine lv_aload_n hx hb dL_law_413 rfl (lv_at hl 5 rfl) ?_
              refine lv_iconst (v := 0) hx hb dL_law_414 (by decide) ?_
              refine mm_lald C S h dL_law_415 (fun v88 h => ?_)
              refine lv_iload hx hb dL_law_416 (lv_at hl 0 rfl) ?_
              refine lv_i2l hx hb dL_law_418 rfl ?_
              refine W.lcmp hx hb dL_law_419 ?_
              refine lv_if_eq (tgt := 425) hx hb dL_law_420 (by decide) (fun c9 => ?_) (fun c9 => ?_)
              · have h := h.1 c9
                exact j425 _ _ _ _ _ _ _ _ _ _ _ hk S (lv_sub hl [2, 3, 4, 5, 6] rfl) h
              · have h := h.2 c9
                refine lv_iconst (v := 0) hx hb dL_law_423 (by decide) ?_
                exact mm_zret C S hr (Nat.le_trans (Nat.le_add_right _ _) hk) dL_law_424 h
          · have h := h.2 c9
            refine lv_iconst (v := 0) hx hb dL_law_406 (by decide) ?_
            exact mm_zret C S hr (Nat.le_trans (Nat.le_add_right _ _) hk) dL_law_407 h
        by_cases c3 : (v23 &&& 31) = 3
        · have h := h.2.2.2.1 c3
          rw [c3]
          refine lv_tableIn (tgt := 428) hx hb dL_law_40 (by decide) (by decide) rfl (by decide) ?_
          refine lv_aload_n hx hb dL_law_428 rfl (lv_at hl 1 rfl) ?_
          refine lv_aload_n hx hb dL_law_429 rfl (lv_at hl 0 rfl) ?_
          refine lv_iload hx hb dL_law_430 (lv_at hl 4 rfl) ?_
          refine lv_iconst (v := 1) hx hb dL_law_432 (by decide) ?_
          refine lv_iadd hx hb dL_law_433 ?_
          refine mm_iald13 C S h dL_law_434 (fun v98 h => ?_)
          refine lv_aload_n hx hb dL_law_435 rfl (lv_at hl 0 rfl) ?_
          refine lv_iload hx hb dL_law_436 (lv_at hl 4 rfl) ?_
          refine lv_iconst (v := 2) hx hb dL_law_438 (by decide) ?_
          refine lv_iadd hx hb dL_law_439 ?_
          refine mm_iald13 C S h dL_law_440 (fun v99 h => ?_)
          refine lv_aload_n hx hb dL_law_441 rfl (lv_at hl 3 rfl) ?_
          obtain ⟨b101, r102, hb9, h⟩ := h
          obtain ⟨N117, N118, eM9, hdj, hN9⟩ := h
          subst eM9
          have h := hN9
          refine mm_SX (As := [.ref a1, .int v98, .int v99, .ref a3]) (rest := []) C S hl.1 (mMet.frame hdj (wk_X0_setInflow hst0 h)) (lw_SW q584 q585 q47 q586) pd_X0_setInflow ⟨Nat.le_of_ble_eq_true rfl, Nat.le_of_ble_eq_true rfl⟩ rfl rfl (Nat.le_of_ble_eq_true rfl) dL_law_442 rfl rfl hk hb9 (fun v9 M100 H locs hP S hk => ?_) (fun E q ce M9 H9 locs9 hX => by obtain ⟨_, h9, _⟩ := hX; exact h9.elim)
          obtain ⟨_, ⟨v103, rfl, h⟩, eM8, hd9⟩ := hP
          have h := h hd9
          rw [← eM8] at h
          refine W.eq (g2 := F0 m 445 ls [.int v103]) rfl ?_
          refine lv_istore (lv' := [(5, .int v103), (0, .ref a0), (1, .ref a1), (2, .ref a2), (3, .ref a3), (4, .int x4)]) hx hb dL_law_445 hl (by decide) rfl (fun ls hl => ?_)
          refine lv_aload_n hx hb dL_law_447 rfl (lv_at hl 3 rfl) ?_
          refine lv_aload_n hx hb dL_law_448 rfl (lv_at hl 1 rfl) ?_
          refine lv_iload hx hb dL_law_449 (lv_at hl 5 rfl) ?_
          refine lv_iconst (v := 1) hx hb dL_law_451 (by decide) ?_
          refine lv_iadd hx hb dL_law_452 ?_
          refine mm_iald13 C S h dL_law_453 (fun v104 h => ?_)
          refine lv_aload_n hx hb dL_law_454 rfl (lv_at hl 1 rfl) ?_
          refine lv_iload hx hb dL_law_455 (lv_at hl 5 rfl) ?_
          refine lv_iconst (v := 2) hx hb dL_law_457 (by decide) ?_
          refine lv_iadd hx hb dL_law_458 ?_
          refine mm_iald13 C S h dL_law_459 (fun v105 h => ?_)
          obtain ⟨hI, h⟩ := h
          obtain ⟨N114, N115, eM9, hdj, hN9⟩ := h
          subst eM9
          have h := hN9
          refine mm_V (As := [.int v104, .int v105]) (rest := []) C S hl.1 (mMet.frame hdj (wk_X4_setInflow hst0 h)) (T := TX4) rfl hI (lw_V q1859 q1860 q1861 q58 q1862) rfl pd_X4_setInflow ⟨Nat.le_of_ble_eq_true rfl, Nat.le_of_ble_eq_true rfl⟩ rfl rfl (Nat.le_of_ble_eq_true rfl) dL_law_460 rfl rfl hk (Nat.zero_add _) (fun v9 M106 H locs hP S hk => ?_) (fun E q ce M9 H9 locs9 hX => by obtain ⟨_, h9, _⟩ := hX; exact h9.elim)
          obtain ⟨_, ⟨v107, rfl, h⟩, eM8, hd9⟩ := hP
          have h := h hd9
          rw [← eM8] at h
          refine W.eq (g2 := F0 m 463 ls [.int v107]) rfl ?_
          refine lv_istore (lv' := [(6, .int v107), (5, .int v103), (0, .ref a0), (1, .ref a1), (2, .ref a2), (3, .ref a3), (4, .int x4)]) hx hb dL_law_463 hl (by decide) rfl (fun ls hl => ?_)
          refine lv_aload_n hx hb dL_law_465 rfl (lv_at hl 4 rfl) ?_
          obtain ⟨hI, h⟩ := h
          obtain ⟨N111, N112, eM9, hdj, hN9⟩ := h
          subst eM9
          have h := hN9
          refine mm_V (As := []) (rest := []) C S hl.1 (mMet.frame hdj (wk_X4_thrown hst0 h)) (T := TX4) rfl hI (lw_V q1819 q1820 q1821 q58 q1822) rfl pd_X4_thrown ⟨Nat.le_of_ble_eq_true rfl, Nat.le_of_ble_eq_true rfl⟩ rfl rfl (Nat.le_of_ble_eq_true rfl) dL_law_466 rfl rfl hk (Nat.zero_add _) (fun v9 M108 H locs hP S hk => ?_) (fun E q ce M9 H9 locs9 hX => by obtain ⟨_, h9, _⟩ := hX; exact h9.elim)
          obtain ⟨_, ⟨v109, rfl, h⟩, eM8, hd9⟩ := hP
          have h := h hd9
          rw [← eM8] at h
          refine W.eq (g2 := F0 m 469 ls [.int v109]) rfl ?_
          refine lv_iload hx hb dL_law_469 (lv_at hl 1 rfl) ?_
          refine lv_icmp_eq (tgt := 476) hx hb dL_law_471 (by decide) (fun c9 => ?_) (fun c9 => ?_)
          · have h := h.1 c9
            refine lv_iload hx hb dL_law_476 (lv_at hl 1 rfl) ?_
            refine lv_if_ne (tgt := 493) hx hb dL_law_478 (by decide) (fun c9 => ?_) (fun c9 => ?_)
            · have h := h.1 c9
              exact j493 _ _ _ _ _ _ _ _ _ _ _ hk S (lv_sub hl [2, 3, 4, 5, 6] rfl) h
            · have h := h.2 c9
              refine lv_aload_n hx hb dL_law_481 rfl (lv_at hl 5 rfl) ?_
              refine lv_iconst (v := 0) hx hb dL_law_482 (by decide) ?_
              refine mm_lald C S h dL_law_483 (fun v110 h => ?_)
              refine lv_iload hx hb dL_law_484 (lv_at hl 0 rfl) ?_
              refine lv_i2l hx hb dL_law_486 rfl ?_
              refine W.lcmp hx hb dL_law_487 ?_
              refine lv_if_eq (tgt := 493) hx hb dL_law_488 (by decide) (fun c9 => ?_) (fun c9 => ?_)
              · have h := h.1 c9
                exact j493 _ _ _ _ _ _ _ _ _ _ _ hk S (lv_sub hl [2, 3, 4, 5, 6] rfl) h
              · have h := h.2 c9
                refine lv_iconst (v := 0) hx hb dL_law_491 (by decide) ?_
                exact mm_zret C S hr (Nat.le_trans (Nat.le_add_right _ _) hk) dL_law_492 h
          · have h := h.2 c9
            refine lv_iconst (v := 0) hx hb dL_law_474 (by decide) ?_
            exact mm_zret C S hr (Nat.le_trans (Nat.le_add_right _ _) hk) dL_law_475 h
        by_cases c4 : (v23 &&& 31) = 4
        · have h := h.2.2.2.2.1 c4
          rw [c4]
          refine lv_tableIn (tgt := 496) hx hb dL_law_40 (by decide) (by decide) rfl (by decide) ?_
          refine lv_aload_n hx hb dL_law_496 rfl (lv_at hl 1 rfl) ?_
          refine lv_aload_n hx hb dL_law_497 rfl (lv_at hl 0 rfl) ?_
          refine lv_iload hx hb dL_law_498 (lv_at hl 4 rfl) ?_
          refine lv_iconst (v := 1) hx hb dL_law_500 (by decide) ?_
          refine lv_iadd hx hb dL_law_501 ?_
          refine mm_iald13 C S h dL_law_502 (fun v120 h => ?_)
          refine lv_aload_n hx hb dL_law_503 rfl (lv_at hl 3 rfl) ?_
          obtain ⟨b122, r123, hb9, h⟩ := h
          obtain ⟨N137, N138, eM9, hdj, hN9⟩ := h
          subst eM9
          have h := hN9
          refine mm_SX (As := [.ref a1, .int v120, .ref a3]) (rest := []) C S hl.1 (mMet.frame hdj (wk_X0_level hst0 h)) (lw_SW q591 q592 q47 q593) pd_X0_level ⟨Nat.le_of_ble_eq_true rfl, Nat.le_of_ble_eq_true rfl⟩ rfl rfl (Nat.le_of_ble_eq_true rfl) dL_law_504 rfl rfl hk hb9 (fun v9 M121 H locs hP S hk => ?_) (fun E q ce M9 H9 locs9 hX => by obtain ⟨_, h9, _⟩ := hX; exact h9.elim)
          obtain ⟨_, ⟨v124, rfl, h⟩, eM8, hd9⟩ := hP
          have h := h hd9
          rw [← eM8] at h
          refine W.eq (g2 := F0 m 507 ls [.int v124]) rfl ?_
          refine lv_istore (lv' := [(5, .int v124), (0, .ref a0), (1, .ref a1), (2, .ref a2), (3, .ref a3), (4, .int x4)]) hx hb dL_law_507 hl (by decide) rfl (fun ls hl => ?_)
          refine lv_aload_n hx hb dL_law_509 rfl (lv_at hl 3 rfl) ?_
          refine lv_aload_n hx hb dL_law_510 rfl (lv_at hl 1 rfl) ?_
          refine lv_iload hx hb dL_law_511 (lv_at hl 5 rfl) ?_
          refine lv_iconst (v := 1) hx hb dL_law_513 (by decide) ?_
          refine lv_iadd hx hb dL_law_514 ?_
          refine mm_iald13 C S h dL_law_515 (fun v125 h => ?_)
          obtain ⟨hI, h⟩ := h
          obtain ⟨N134, N135, eM9, hdj, hN9⟩ := h
          subst eM9
          have h := hN9
          refine mm_V (As := [.int v125]) (rest := []) C S hl.1 (mMet.frame hdj (wk_X4_level hst0 h)) (T := TX4) rfl hI (lw_V q1863 q1864 q1865 q58 q1866) rfl pd_X4_level ⟨Nat.le_of_ble_eq_true rfl, Nat.le_of_ble_eq_true rfl⟩ rfl rfl (Nat.le_of_ble_eq_true rfl) dL_law_516 rfl rfl hk (Nat.zero_add _) (fun v9 M126 H locs hP S hk => ?_) (fun E q ce M9 H9 locs9 hX => by obtain ⟨_, h9, _⟩ := hX; exact h9.elim)
          obtain ⟨_, ⟨v127, rfl, h⟩, eM8, hd9⟩ := hP
          have h := h hd9
          rw [← eM8] at h
          refine W.eq (g2 := F0 m 519 ls [.int v127]) rfl ?_
          refine lv_istore (lv' := [(6, .int v127), (5, .int v124), (0, .ref a0), (1, .ref a1), (2, .ref a2), (3, .ref a3), (4, .int x4)]) hx hb dL_law_519 hl (by decide) rfl (fun ls hl => ?_)
          refine lv_aload_n hx hb dL_law_521 rfl (lv_at hl 4 rfl) ?_
          obtain ⟨hI, h⟩ := h
          obtain ⟨N131, N132, eM9, hdj, hN9⟩ := h
          subst eM9
          have h := hN9
          refine mm_V (As := []) (rest := []) C S hl.1 (mMet.frame hdj (wk_X4_thrown hst0 h)) (T := TX4) rfl hI (lw_V q1819 q1820 q1821 q58 q1822) rfl pd_X4_thrown ⟨Nat.le_of_ble_eq_true rfl, Nat.le_of_ble_eq_true rfl⟩ rfl rfl (Nat.le_of_ble_eq_true rfl) dL_law_522 rfl rfl hk (Nat.zero_add _) (fun v9 M128 H locs hP S hk => ?_) (fun E q ce M9 H9 locs9 hX => by obtain ⟨_, h9, _⟩ := hX; exact h9.elim)
          obtain ⟨_, ⟨v129, rfl, h⟩, eM8, hd9⟩ := hP
          have h := h hd9
          rw [← eM8] at h
          refine W.eq (g2 := F0 m 525 ls [.int v129]) rfl ?_
          refine lv_iload hx hb dL_law_525 (lv_at hl 1 rfl) ?_
          refine lv_icmp_eq (tgt := 532) hx hb dL_law_527 (by decide) (fun c9 => ?_) (fun c9 => ?_)
          · have h := h.1 c9
            refine lv_iload hx hb dL_law_532 (lv_at hl 1 rfl) ?_
            refine lv_if_ne (tgt := 549) hx hb dL_law_534 (by decide) (fun c9 => ?_) (fun c9 => ?_)
            · have h := h.1 c9
              exact j549 _ _ _ _ _ _ _ _ _ _ _ hk S (lv_sub hl [2, 3, 4, 5, 6] rfl) h
            · have h := h.2 c9
              refine lv_aload_n hx hb dL_law_537 rfl (lv_at hl 5 rfl) ?_
              refine lv_iconst (v := 0) hx hb dL_law_538 (by decide) ?_
              refine mm_lald C S h dL_law_539 (fun v130 h => ?_)
              refine lv_iload hx hb dL_law_540 (lv_at hl 0 rfl) ?_
              refine lv_i2l hx hb dL_law_542 rfl ?_
              refine W.lcmp hx hb dL_law_543 ?_
              refine lv_if_eq (tgt := 549) hx hb dL_law_544 (by decide) (fun c9 => ?_) (fun c9 => ?_)
              · have h := h.1 c9
                exact j549 _ _ _ _ _ _ _ _ _ _ _ hk S (lv_sub hl [2, 3, 4, 5, 6] rfl) h
              · have h := h.2 c9
                refine lv_iconst (v := 0) hx hb dL_law_547 (by decide) ?_
                exact mm_zret C S hr (Nat.le_trans (Nat.le_add_right _ _) hk) dL_law_548 h
          · have h := h.2 c9
            refine lv_iconst (v := 0) hx hb dL_law_530 (by decide) ?_
            exact mm_zret C S hr (Nat.le_trans (Nat.le_add_right _ _) hk) dL_law_531 h
        by_cases c5 : (v23 &&& 31) = 5
        · have h := h.2.2.2.2.2.1 c5
          rw [c5]
          refine lv_tableIn (tgt := 552) hx hb dL_law_40 (by decide) (by decide) rfl (by decide) ?_
          refine lv_aload_n hx hb dL_law_552 rfl (lv_at hl 1 rfl) ?_
          refine lv_aload_n hx hb dL_law_553 rfl (lv_at hl 0 rfl) ?_
          refine lv_iload hx hb dL_law_554 (lv_at hl 4 rfl) ?_
          refine lv_iconst (v := 1) hx hb dL_law_556 (by decide) ?_
          refine lv_iadd hx hb dL_law_557 ?_
          refine mm_iald13 C S h dL_law_558 (fun v140 h => ?_)
          refine lv_aload_n hx hb dL_law_559 rfl (lv_at hl 0 rfl) ?_
          refine lv_iload hx hb dL_law_560 (lv_at hl 4 rfl) ?_
          refine lv_iconst (v := 2) hx hb dL_law_562 (by decide) ?_
          refine lv_iadd hx hb dL_law_563 ?_
          refine mm_iald13 C S h dL_law_564 (fun v141 h => ?_)
          refine lv_aload_n hx hb dL_law_565 rfl (lv_at hl 0 rfl) ?_
          refine lv_iload hx hb dL_law_566 (lv_at hl 4 rfl) ?_
          refine lv_iconst (v := 3) hx hb dL_law_568 (by decide) ?_
          refine lv_iadd hx hb dL_law_569 ?_
          refine mm_iald13 C S h dL_law_570 (fun v142 h => ?_)
          refine lv_aload_n hx hb dL_law_571 rfl (lv_at hl 3 rfl) ?_
          obtain ⟨b144, r145, hb9, h⟩ := h
          obtain ⟨N161, N162, eM9, hdj, hN9⟩ := h
          subst eM9
          have h := hN9
          refine mm_SX (As := [.ref a1, .int v140, .int v141, .int v142, .ref a3]) (rest := []) C S hl.1 (mMet.frame hdj (wk_X0_addSluice hst0 h)) (lw_SW q598 q599 q47 q600) pd_X0_addSluice ⟨Nat.le_of_ble_eq_true rfl, Nat.le_of_ble_eq_true rfl⟩ rfl rfl (Nat.le_of_ble_eq_true rfl) dL_law_572 rfl rfl hk hb9 (fun v9 M143 H locs hP S hk => ?_) (fun E q ce M9 H9 locs9 hX => by obtain ⟨_, h9, _⟩ := hX; exact h9.elim)
          obtain ⟨_, ⟨v146, rfl, h⟩, eM8, hd9⟩ := hP
          have h := h hd9
          rw [← eM8] at h
          refine W.eq (g2 := F0 m 575 ls [.int v146]) rfl ?_
          refine lv_istore (lv' := [(5, .int v146), (0, .ref a0), (1, .ref a1), (2, .ref a2), (3, .ref a3), (4, .int x4)]) hx hb dL_law_575 hl (by decide) rfl (fun ls hl => ?_)
          refine lv_aload_n hx hb dL_law_577 rfl (lv_at hl 3 rfl) ?_
          refine lv_aload_n hx hb dL_law_578 rfl (lv_at hl 1 rfl) ?_
          refine lv_iload hx hb dL_law_579 (lv_at hl 5 rfl) ?_
          refine lv_iconst (v := 1) hx hb dL_law_581 (by decide) ?_
          refine lv_iadd hx hb dL_law_582 ?_
          refine mm_iald13 C S h dL_law_583 (fun v147 h => ?_)
          refine lv_aload_n hx hb dL_law_584 rfl (lv_at hl 1 rfl) ?_
          refine lv_iload hx hb dL_law_585 (lv_at hl 5 rfl) ?_
          refine lv_iconst (v := 2) hx hb dL_law_587 (by decide) ?_
          refine lv_iadd hx hb dL_law_588 ?_
          refine mm_iald13 C S h dL_law_589 (fun v148 h => ?_)
          refine lv_aload_n hx hb dL_law_590 rfl (lv_at hl 1 rfl) ?_
          refine lv_iload hx hb dL_law_591 (lv_at hl 5 rfl) ?_
          refine lv_iconst (v := 3) hx hb dL_law_593 (by decide) ?_
          refine lv_iadd hx hb dL_law_594 ?_
          refine mm_iald13 C S h dL_law_595 (fun v149 h => ?_)
          obtain ⟨hI, h⟩ := h
          obtain ⟨N158, N159, eM9, hdj, hN9⟩ := h
          subst eM9
          have h := hN9
          refine mm_V (As := [.int v147, .int v148, .int v149]) (rest := []) C S hl.1 (mMet.frame hdj (wk_X4_addSluice hst0 h)) (T := TX4) rfl hI (lw_V q1867 q1868 q1869 q58 q1870) rfl pd_X4_addSluice ⟨Nat.le_of_ble_eq_true rfl, Nat.le_of_ble_eq_true rfl⟩ rfl rfl (Nat.le_of_ble_eq_true rfl) dL_law_596 rfl rfl hk (Nat.zero_add _) (fun v9 M150 H locs hP S hk => ?_) (fun E q ce M9 H9 locs9 hX => by obtain ⟨_, h9, _⟩ := hX; exact h9.elim)
          obtain ⟨_, ⟨v151, rfl, h⟩, eM8, hd9⟩ := hP
          have h := h hd9
          rw [← eM8] at h
          refine W.eq (g2 := F0 m 599 ls [.int v151]) rfl ?_
          refine lv_istore (lv' := [(6, .int v151), (5, .int v146), (0, .ref a0), (1, .ref a1), (2, .ref a2), (3, .ref a3), (4, .int x4)]) hx hb dL_law_599 hl (by decide) rfl (fun ls hl => ?_)
          refine lv_aload_n hx hb dL_law_601 rfl (lv_at hl 4 rfl) ?_
          obtain ⟨hI, h⟩ := h
          obtain ⟨N155, N156, eM9, hdj, hN9⟩ := h
          subst eM9
          have h := hN9
          refine mm_V (As := []) (rest := []) C S hl.1 (mMet.frame hdj (wk_X4_thrown hst0 h)) (T := TX4) rfl hI (lw_V q1819 q1820 q1821 q58 q1822) rfl pd_X4_thrown ⟨Nat.le_of_ble_eq_true rfl, Nat.le_of_ble_eq_true rfl⟩ rfl rfl (Nat.le_of_ble_eq_true rfl) dL_law_602 rfl rfl hk (Nat.zero_add _) (fun v9 M152 H locs hP S hk => ?_) (fun E q ce M9 H9 locs9 hX => by obtain ⟨_, h9, _⟩ := hX; exact h9.elim)
          obtain ⟨_, ⟨v153, rfl, h⟩, eM8, hd9⟩ := hP
          have h := h hd9
          rw [← eM8] at h
          refine W.eq (g2 := F0 m 605 ls [.int v153]) rfl ?_
          refine lv_iload hx hb dL_law_605 (lv_at hl 1 rfl) ?_
          refine lv_icmp_eq (tgt := 612) hx hb dL_law_607 (by decide) (fun c9 => ?_) (fun c9 => ?_)
          · have h := h.1 c9
            refine lv_iload hx hb dL_law_612 (lv_at hl 1 rfl) ?_
            refine lv_if_ne (tgt := 629) hx hb dL_law_614 (by decide) (fun c9 => ?_) (fun c9 => ?_)
            · have h := h.1 c9
              exact j629 _ _ _ _ _ _ _ _ _ _ _ hk S (lv_sub hl [2, 3, 4, 5, 6] rfl) h
            · have h := h.2 c9
              refine lv_aload_n hx hb dL_law_617 rfl (lv_at hl 5 rfl) ?_
              refine lv_iconst (v := 0) hx hb dL_law_618 (by decide) ?_
              refine mm_lald C S h dL_law_619 (fun v154 h => ?_)
              refine lv_iload hx hb dL_law_620 (lv_at hl 0 rfl) ?_
              refine lv_i2l hx hb dL_law_622 rfl ?_
              refine W.lcmp hx hb dL_law_623 ?_
              refine lv_if_eq (tgt := 629) hx hb dL_law_624 (by decide) (fun c9 => ?_) (fun c9 => ?_)
              · have h := h.1 c9
                exact j629 _ _ _ _ _ _ _ _ _ _ _ hk S (lv_sub hl [2, 3, 4, 5, 6] rfl) h
              · have h := h.2 c9
                refine lv_iconst (v := 0) hx hb dL_law_627 (by decide) ?_
                exact mm_zret C S hr (Nat.le_trans (Nat.le_add_right _ _) hk) dL_law_628 h
          · have h := h.2 c9
            refine lv_iconst (v := 0) hx hb dL_law_610 (by decide) ?_
            exact mm_zret C S hr (Nat.le_trans (Nat.le_add_right _ _) hk) dL_law_611 h
        by_cases c6 : (v23 &&& 31) = 6
        · have h := h.2.2.2.2.2.2.1 c6
          rw [c6]
          refine lv_tableIn (tgt := 632) hx hb dL_law_40 (by decide) (by decide) rfl (by decide) ?_
          refine lv_aload_n hx hb dL_law_632 rfl (lv_at hl 1 rfl) ?_
          refine lv_aload_n hx hb dL_law_633 rfl (lv_at hl 0 rfl) ?_
          refine lv_iload hx hb dL_law_634 (lv_at hl 4 rfl) ?_
          refine lv_iconst (v := 1) hx hb dL_law_636 (by decide) ?_
          refine lv_iadd hx hb dL_law_637 ?_
          refine mm_iald13 C S h dL_law_638 (fun v164 h => ?_)
          refine lv_aload_n hx hb dL_law_639 rfl (lv_at hl 0 rfl) ?_
          refine lv_iload hx hb dL_law_640 (lv_at hl 4 rfl) ?_
          refine lv_iconst (v := 2) hx hb dL_law_642 (by decide) ?_
          refine lv_iadd hx hb dL_law_643 ?_
          refine mm_iald13 C S h dL_law_644 (fun v165 h => ?_)
          refine lv_if_eq (tgt := 652) hx hb dL_law_645 (by decide) (fun c9 => ?_) (fun c9 => ?_)
          · have h := h.1 c9
            refine lv_iconst (v := 0) hx hb dL_law_652 (by decide) ?_
            exact j653 _ _ _ _ _ _ _ _ _ _ _ _ _ _ hk S hl h
          · have h := h.2 c9
            refine lv_iconst (v := 1) hx hb dL_law_648 (by decide) ?_
            refine lv_goto (tgt := 653) hx hb dL_law_649 (by decide) ?_
            exact j653 _ _ _ _ _ _ _ _ _ _ _ _ _ _ hk S hl h
        by_cases c7 : (v23 &&& 31) = 7
        · have h := h.2.2.2.2.2.2.2.1 c7
          rw [c7]
          refine lv_tableIn (tgt := 723) hx hb dL_law_40 (by decide) (by decide) rfl (by decide) ?_
          refine lv_aload_n hx hb dL_law_723 rfl (lv_at hl 1 rfl) ?_
          refine lv_aload_n hx hb dL_law_724 rfl (lv_at hl 0 rfl) ?_
          refine lv_iload hx hb dL_law_725 (lv_at hl 4 rfl) ?_
          refine lv_iconst (v := 1) hx hb dL_law_727 (by decide) ?_
          refine lv_iadd hx hb dL_law_728 ?_
          refine mm_iald13 C S h dL_law_729 (fun v166 h => ?_)
          refine lv_aload_n hx hb dL_law_730 rfl (lv_at hl 3 rfl) ?_
          obtain ⟨b168, r169, hb9, h⟩ := h
          obtain ⟨N183, N184, eM9, hdj, hN9⟩ := h
          subst eM9
          have h := hN9
          refine mm_SX (As := [.ref a1, .int v166, .ref a3]) (rest := []) C S hl.1 (mMet.frame hdj (wk_X0_pass hst0 h)) (lw_SW q731 q732 q47 q733) pd_X0_pass ⟨Nat.le_of_ble_eq_true rfl, Nat.le_of_ble_eq_true rfl⟩ rfl rfl (Nat.le_of_ble_eq_true rfl) dL_law_731 rfl rfl hk hb9 (fun v9 M167 H locs hP S hk => ?_) (fun E q ce M9 H9 locs9 hX => by obtain ⟨_, h9, _⟩ := hX; exact h9.elim)
          obtain ⟨_, ⟨v170, rfl, h⟩, eM8, hd9⟩ := hP
          have h := h hd9
          rw [← eM8] at h
          refine W.eq (g2 := F0 m 734 ls [.int v170]) rfl ?_
          refine lv_istore (lv' := [(5, .int v170), (0, .ref a0), (1, .ref a1), (2, .ref a2), (3, .ref a3), (4, .int x4)]) hx hb dL_law_734 hl (by decide) rfl (fun ls hl => ?_)
          refine lv_aload_n hx hb dL_law_736 rfl (lv_at hl 3 rfl) ?_
          refine lv_aload_n hx hb dL_law_737 rfl (lv_at hl 1 rfl) ?_
          refine lv_iload hx hb dL_law_738 (lv_at hl 5 rfl) ?_
          refine lv_iconst (v := 1) hx hb dL_law_740 (by decide) ?_
          refine lv_iadd hx hb dL_law_741 ?_
          refine mm_iald13 C S h dL_law_742 (fun v171 h => ?_)
          obtain ⟨hI, h⟩ := h
          obtain ⟨N180, N181, eM9, hdj, hN9⟩ := h
          subst eM9
          have h := hN9
          refine mm_V (As := [.int v171]) (rest := []) C S hl.1 (mMet.frame hdj (wk_X4_pass hst0 h)) (T := TX4) rfl hI (lw_V q1875 q1876 q1877 q58 q1878) rfl pd_X4_pass ⟨Nat.le_of_ble_eq_true rfl, Nat.le_of_ble_eq_true rfl⟩ rfl rfl (Nat.le_of_ble_eq_true rfl) dL_law_743 rfl rfl hk (Nat.zero_add _) (fun v9 M172 H locs hP S hk => ?_) (fun E q ce M9 H9 locs9 hX => by obtain ⟨_, h9, _⟩ := hX; exact h9.elim)
          obtain ⟨_, ⟨v173, rfl, h⟩, eM8, hd9⟩ := hP
          have h := h hd9
          rw [← eM8] at h
          refine W.eq (g2 := F0 m 746 ls [.int v173]) rfl ?_
          refine lv_istore (lv' := [(6, .int v173), (5, .int v170), (0, .ref a0), (1, .ref a1), (2, .ref a2), (3, .ref a3), (4, .int x4)]) hx hb dL_law_746 hl (by decide) rfl (fun ls hl => ?_)
          refine lv_aload_n hx hb dL_law_748 rfl (lv_at hl 4 rfl) ?_
          obtain ⟨hI, h⟩ := h
          obtain ⟨N177, N178, eM9, hdj, hN9⟩ := h
          subst eM9
          have h := hN9
          refine mm_V (As := []) (rest := []) C S hl.1 (mMet.frame hdj (wk_X4_thrown hst0 h)) (T := TX4) rfl hI (lw_V q1819 q1820 q1821 q58 q1822) rfl pd_X4_thrown ⟨Nat.le_of_ble_eq_true rfl, Nat.le_of_ble_eq_true rfl⟩ rfl rfl (Nat.le_of_ble_eq_true rfl) dL_law_749 rfl rfl hk (Nat.zero_add _) (fun v9 M174 H locs hP S hk => ?_) (fun E q ce M9 H9 locs9 hX => by obtain ⟨_, h9, _⟩ := hX; exact h9.elim)
          obtain ⟨_, ⟨v175, rfl, h⟩, eM8, hd9⟩ := hP
          have h := h hd9
          rw [← eM8] at h
          refine W.eq (g2 := F0 m 752 ls [.int v175]) rfl ?_
          refine lv_iload hx hb dL_law_752 (lv_at hl 1 rfl) ?_
          refine lv_icmp_eq (tgt := 759) hx hb dL_law_754 (by decide) (fun c9 => ?_) (fun c9 => ?_)
          · have h := h.1 c9
            refine lv_iload hx hb dL_law_759 (lv_at hl 1 rfl) ?_
            refine lv_if_ne (tgt := 776) hx hb dL_law_761 (by decide) (fun c9 => ?_) (fun c9 => ?_)
            · have h := h.1 c9
              exact j776 _ _ _ _ _ _ _ _ _ _ _ hk S (lv_sub hl [2, 3, 4, 5, 6] rfl) h
            · have h := h.2 c9
              refine lv_aload_n hx hb dL_law_764 rfl (lv_at hl 5 rfl) ?_
              refine lv_iconst (v := 0) hx hb dL_law_765 (by decide) ?_
              refine mm_lald C S h dL_law_766 (fun v176 h => ?_)
              refine lv_iload hx hb dL_law_767 (lv_at hl 0 rfl) ?_
              refine lv_i2l hx hb dL_law_769 rfl ?_
              refine W.lcmp hx hb dL_law_770 ?_
              refine lv_if_eq (tgt := 776) hx hb dL_law_771 (by decide) (fun c9 => ?_) (fun c9 => ?_)
              · have h := h.1 c9
                exact j776 _ _ _ _ _ _ _ _ _ _ _ hk S (lv_sub hl [2, 3, 4, 5, 6] rfl) h
              · have h := h.2 c9
                refine lv_iconst (v := 0) hx hb dL_law_774 (by decide) ?_
                exact mm_zret C S hr (Nat.le_trans (Nat.le_add_right _ _) hk) dL_law_775 h
          · have h := h.2 c9
            refine lv_iconst (v := 0) hx hb dL_law_757 (by decide) ?_
            exact mm_zret C S hr (Nat.le_trans (Nat.le_add_right _ _) hk) dL_law_758 h
        by_cases c8 : (v23 &&& 31) = 8
        · have h := h.2.2.2.2.2.2.2.2.1 c8
          rw [c8]
          refine lv_tableIn (tgt := 779) hx hb dL_law_40 (by decide) (by decide) rfl (by decide) ?_
          refine lv_aload_n hx hb dL_law_779 rfl (lv_at hl 1 rfl) ?_
          refine lv_aload_n hx hb dL_law_780 rfl (lv_at hl 0 rfl) ?_
          refine lv_iload hx hb dL_law_781 (lv_at hl 4 rfl) ?_
          refine lv_iconst (v := 1) hx hb dL_law_783 (by decide) ?_
          refine lv_iadd hx hb dL_law_784 ?_
          refine mm_iald13 C S h dL_law_785 (fun v186 h => ?_)
          refine lv_i2l hx hb dL_law_786 rfl ?_
          refine lv_bipush (v := 32) hx hb dL_law_787 (by decide) ?_
          refine lv_lshl hx hb dL_law_789 rfl ?_
          refine lv_topl (fun g187 eg187 => ?_)
          have h := h g187 eg187
          refine lv_aload_n hx hb dL_law_790 rfl (lv_at hl 0 rfl) ?_
          refine lv_iload hx hb dL_law_791 (lv_at hl 4 rfl) ?_
          refine lv_iconst (v := 2) hx hb dL_law_793 (by decide) ?_
          refine lv_iadd hx hb dL_law_794 ?_
          refine mm_iald13 C S h dL_law_795 (fun v188 h => ?_)
          refine lv_i2l hx hb dL_law_796 rfl ?_
          refine lv_ldc2 hx hb C.hown (C.ts _ q2070) dL_law_797 ?_
          refine lv_land hx hb dL_law_800 ?_
          refine lv_topl (fun g189 eg189 => ?_)
          have h := h g189 eg189
          refine lv_lor hx hb dL_law_801 ?_
          refine lv_aload_n hx hb dL_law_802 rfl (lv_at hl 3 rfl) ?_
          obtain ⟨b191, r192, hb9, h⟩ := h
          obtain ⟨N209, N210, eM9, hdj, hN9⟩ := h
          subst eM9
          have h := hN9
          refine mm_SX (As := [.ref a1, .long (g187 ||| g189), .ref a3]) (rest := []) C S hl.1 (mMet.frame hdj (wk_X0_type hst0 h)) (lw_SW q751 q752 q47 q753) pd_X0_type ⟨Nat.le_of_ble_eq_true rfl, Nat.le_of_ble_eq_true rfl⟩ rfl rfl (Nat.le_of_ble_eq_true rfl) dL_law_803 rfl rfl hk hb9 (fun v9 M190 H locs hP S hk => ?_) (fun E q ce M9 H9 locs9 hX => by obtain ⟨_, h9, _⟩ := hX; exact h9.elim)
          obtain ⟨_, ⟨v193, rfl, h⟩, eM8, hd9⟩ := hP
          have h := h hd9
          rw [← eM8] at h
          refine W.eq (g2 := F0 m 806 ls [.int v193]) rfl ?_
          refine lv_istore (lv' := [(5, .int v193), (0, .ref a0), (1, .ref a1), (2, .ref a2), (3, .ref a3), (4, .int x4)]) hx hb dL_law_806 hl (by decide) rfl (fun ls hl => ?_)
          refine lv_aload_n hx hb dL_law_808 rfl (lv_at hl 3 rfl) ?_
          refine lv_aload_n hx hb dL_law_809 rfl (lv_at hl 1 rfl) ?_
          refine lv_iload hx hb dL_law_810 (lv_at hl 5 rfl) ?_
          refine lv_iconst (v := 1) hx hb dL_law_812 (by decide) ?_
          refine lv_iadd hx hb dL_law_813 ?_
          refine mm_iald13 C S h dL_law_814 (fun v194 h => ?_)
          refine lv_i2l hx hb dL_law_815 rfl ?_
          refine lv_bipush (v := 32) hx hb dL_law_816 (by decide) ?_
          refine lv_lshl hx hb dL_law_818 rfl ?_
          refine lv_topl (fun g195 eg195 => ?_)
          have h := h g195 eg195
          refine lv_aload_n hx hb dL_law_819 rfl (lv_at hl 1 rfl) ?_
          refine lv_iload hx hb dL_law_820 (lv_at hl 5 rfl) ?_
          refine lv_iconst (v := 2) hx hb dL_law_822 (by decide) ?_
          refine lv_iadd hx hb dL_law_823 ?_
          refine mm_iald13 C S h dL_law_824 (fun v196 h => ?_)
          refine lv_i2l hx hb dL_law_825 rfl ?_
          refine lv_ldc2 hx hb C.hown (C.ts _ q2070) dL_law_826 ?_
          refine lv_land hx hb dL_law_829 ?_
          refine lv_topl (fun g197 eg197 => ?_)
          have h := h g197 eg197
          refine lv_lor hx hb dL_law_830 ?_
          obtain ⟨hI, h⟩ := h
          obtain ⟨N206, N207, eM9, hdj, hN9⟩ := h
          subst eM9
          have h := hN9
          refine mm_V (As := [.long (g195 ||| g197)]) (rest := []) C S hl.1 (mMet.frame hdj (wk_X4_type hst0 h)) (T := TX4) rfl hI (lw_V q1885 q1886 q1887 q58 q1888) rfl pd_X4_type ⟨Nat.le_of_ble_eq_true rfl, Nat.le_of_ble_eq_true rfl⟩ rfl rfl (Nat.le_of_ble_eq_true rfl) dL_law_831 rfl rfl hk (Nat.zero_add _) (fun v9 M198 H locs hP S hk => ?_) (fun E q ce M9 H9 locs9 hX => by obtain ⟨_, h9, _⟩ := hX; exact h9.elim)
          obtain ⟨_, ⟨v199, rfl, h⟩, eM8, hd9⟩ := hP
          have h := h hd9
          rw [← eM8] at h
          refine W.eq (g2 := F0 m 834 ls [.int v199]) rfl ?_
          refine lv_istore (lv' := [(6, .int v199), (5, .int v193), (0, .ref a0), (1, .ref a1), (2, .ref a2), (3, .ref a3), (4, .int x4)]) hx hb dL_law_834 hl (by decide) rfl (fun ls hl => ?_)
          refine lv_aload_n hx hb dL_law_836 rfl (lv_at hl 4 rfl) ?_
          obtain ⟨hI, h⟩ := h
          obtain ⟨N203, N204, eM9, hdj, hN9⟩ := h
          subst eM9
          have h := hN9
          refine mm_V (As := []) (rest := []) C S hl.1 (mMet.frame hdj (wk_X4_thrown hst0 h)) (T := TX4) rfl hI (lw_V q1819 q1820 q1821 q58 q1822) rfl pd_X4_thrown ⟨Nat.le_of_ble_eq_true rfl, Nat.le_of_ble_eq_true rfl⟩ rfl rfl (Nat.le_of_ble_eq_true rfl) dL_law_837 rfl rfl hk (Nat.zero_add _) (fun v9 M200 H locs hP S hk => ?_) (fun E q ce M9 H9 locs9 hX => by obtain ⟨_, h9, _⟩ := hX; exact h9.elim)
          obtain ⟨_, ⟨v201, rfl, h⟩, eM8, hd9⟩ := hP
          have h := h hd9
          rw [← eM8] at h
          refine W.eq (g2 := F0 m 840 ls [.int v201]) rfl ?_
          refine lv_iload hx hb dL_law_840 (lv_at hl 1 rfl) ?_
          refine lv_icmp_eq (tgt := 847) hx hb dL_law_842 (by decide) (fun c9 => ?_) (fun c9 => ?_)
          · have h := h.1 c9
            refine lv_iload hx hb dL_law_847 (lv_at hl 1 rfl) ?_
            refine lv_if_ne (tgt := 864) hx hb dL_law_849 (by decide) (fun c9 => ?_) (fun c9 => ?_)
            · have h := h.1 c9
              exact j864 _ _ _ _ _ _ _ _ _ _ _ hk S (lv_sub hl [2, 3, 4, 5, 6] rfl) h
            · have h := h.2 c9
              refine lv_aload_n hx hb dL_law_852 rfl (lv_at hl 5 rfl) ?_
              refine lv_iconst (v := 0) hx hb dL_law_853 (by decide) ?_
              refine mm_lald C S h dL_law_854 (fun v202 h => ?_)
              refine lv_iload hx hb dL_law_855 (lv_at hl 0 rfl) ?_
              refine lv_i2l hx hb dL_law_857 rfl ?_
              refine W.lcmp hx hb dL_law_858 ?_
              refine lv_if_eq (tgt := 864) hx hb dL_law_859 (by decide) (fun c9 => ?_) (fun c9 => ?_)
              · have h := h.1 c9
                exact j864 _ _ _ _ _ _ _ _ _ _ _ hk S (lv_sub hl [2, 3, 4, 5, 6] rfl) h
              · have h := h.2 c9
                refine lv_iconst (v := 0) hx hb dL_law_862 (by decide) ?_
                exact mm_zret C S hr (Nat.le_trans (Nat.le_add_right _ _) hk) dL_law_863 h
          · have h := h.2 c9
            refine lv_iconst (v := 0) hx hb dL_law_845 (by decide) ?_
            exact mm_zret C S hr (Nat.le_trans (Nat.le_add_right _ _) hk) dL_law_846 h
        by_cases c9 : (v23 &&& 31) = 9
        · have h := h.2.2.2.2.2.2.2.2.2.1 c9
          rw [c9]
          refine lv_tableIn (tgt := 867) hx hb dL_law_40 (by decide) (by decide) rfl (by decide) ?_
          refine lv_aload_n hx hb dL_law_867 rfl (lv_at hl 1 rfl) ?_
          refine lv_aload_n hx hb dL_law_868 rfl (lv_at hl 0 rfl) ?_
          refine lv_iload hx hb dL_law_869 (lv_at hl 4 rfl) ?_
          refine lv_iconst (v := 1) hx hb dL_law_871 (by decide) ?_
          refine lv_iadd hx hb dL_law_872 ?_
          refine mm_iald13 C S h dL_law_873 (fun v212 h => ?_)
          refine lv_aload_n hx hb dL_law_874 rfl (lv_at hl 3 rfl) ?_
          obtain ⟨b214, r215, hb9, h⟩ := h
          obtain ⟨N229, N230, eM9, hdj, hN9⟩ := h
          subst eM9
          have h := hN9
          refine mm_SX (As := [.ref a1, .int v212, .ref a3]) (rest := []) C S hl.1 (mMet.frame hdj (wk_X0_route hst0 h)) (lw_SW q1008 q1009 q47 q1010) pd_X0_route ⟨Nat.le_of_ble_eq_true rfl, Nat.le_of_ble_eq_true rfl⟩ rfl rfl (Nat.le_of_ble_eq_true rfl) dL_law_875 rfl rfl hk hb9 (fun v9 M213 H locs hP S hk => ?_) (fun E q ce M9 H9 locs9 hX => by obtain ⟨_, h9, _⟩ := hX; exact h9.elim)
          obtain ⟨_, ⟨v216, rfl, h⟩, eM8, hd9⟩ := hP
          have h := h hd9
          rw [← eM8] at h
          refine W.eq (g2 := F0 m 878 ls [.int v216]) rfl ?_
          refine lv_istore (lv' := [(5, .int v216), (0, .ref a0), (1, .ref a1), (2, .ref a2), (3, .ref a3), (4, .int x4)]) hx hb dL_law_878 hl (by decide) rfl (fun ls hl => ?_)
          refine lv_aload_n hx hb dL_law_880 rfl (lv_at hl 3 rfl) ?_
          refine lv_aload_n hx hb dL_law_881 rfl (lv_at hl 1 rfl) ?_
          refine lv_iload hx hb dL_law_882 (lv_at hl 5 rfl) ?_
          refine lv_iconst (v := 1) hx hb dL_law_884 (by decide) ?_
          refine lv_iadd hx hb dL_law_885 ?_
          refine mm_iald13 C S h dL_law_886 (fun v217 h => ?_)
          obtain ⟨hI, h⟩ := h
          obtain ⟨N226, N227, eM9, hdj, hN9⟩ := h
          subst eM9
          have h := hN9
          refine mm_V (As := [.int v217]) (rest := []) C S hl.1 (mMet.frame hdj (wk_X4_route hst0 h)) (T := TX4) rfl hI (lw_V q1890 q1891 q1892 q58 q1893) rfl pd_X4_route ⟨Nat.le_of_ble_eq_true rfl, Nat.le_of_ble_eq_true rfl⟩ rfl rfl (Nat.le_of_ble_eq_true rfl) dL_law_887 rfl rfl hk (Nat.zero_add _) (fun v9 M218 H locs hP S hk => ?_) (fun E q ce M9 H9 locs9 hX => by obtain ⟨_, h9, _⟩ := hX; exact h9.elim)
          obtain ⟨_, ⟨v219, rfl, h⟩, eM8, hd9⟩ := hP
          have h := h hd9
          rw [← eM8] at h
          refine W.eq (g2 := F0 m 890 ls [.int v219]) rfl ?_
          refine lv_istore (lv' := [(6, .int v219), (5, .int v216), (0, .ref a0), (1, .ref a1), (2, .ref a2), (3, .ref a3), (4, .int x4)]) hx hb dL_law_890 hl (by decide) rfl (fun ls hl => ?_)
          refine lv_aload_n hx hb dL_law_892 rfl (lv_at hl 4 rfl) ?_
          obtain ⟨hI, h⟩ := h
          obtain ⟨N223, N224, eM9, hdj, hN9⟩ := h
          subst eM9
          have h := hN9
          refine mm_V (As := []) (rest := []) C S hl.1 (mMet.frame hdj (wk_X4_thrown hst0 h)) (T := TX4) rfl hI (lw_V q1819 q1820 q1821 q58 q1822) rfl pd_X4_thrown ⟨Nat.le_of_ble_eq_true rfl, Nat.le_of_ble_eq_true rfl⟩ rfl rfl (Nat.le_of_ble_eq_true rfl) dL_law_893 rfl rfl hk (Nat.zero_add _) (fun v9 M220 H locs hP S hk => ?_) (fun E q ce M9 H9 locs9 hX => by obtain ⟨_, h9, _⟩ := hX; exact h9.elim)
          obtain ⟨_, ⟨v221, rfl, h⟩, eM8, hd9⟩ := hP
          have h := h hd9
          rw [← eM8] at h
          refine W.eq (g2 := F0 m 896 ls [.int v221]) rfl ?_
          refine lv_iload hx hb dL_law_896 (lv_at hl 1 rfl) ?_
          refine lv_icmp_eq (tgt := 903) hx hb dL_law_898 (by decide) (fun c9 => ?_) (fun c9 => ?_)
          · have h := h.1 c9
            refine lv_iload hx hb dL_law_903 (lv_at hl 1 rfl) ?_
            refine lv_if_ne (tgt := 920) hx hb dL_law_905 (by decide) (fun c9 => ?_) (fun c9 => ?_)
            · have h := h.1 c9
              exact j920 _ _ _ _ _ _ _ _ _ _ _ hk S (lv_sub hl [2, 3, 4, 5, 6] rfl) h
            · have h := h.2 c9
              refine lv_aload_n hx hb dL_law_908 rfl (lv_at hl 5 rfl) ?_
              refine lv_iconst (v := 0) hx hb dL_law_909 (by decide) ?_
              refine mm_lald C S h dL_law_910 (fun v222 h => ?_)
              refine lv_iload hx hb dL_law_911 (lv_at hl 0 rfl) ?_
              refine lv_i2l hx hb dL_law_913 rfl ?_
              refine W.lcmp hx hb dL_law_914 ?_
              refine lv_if_eq (tgt := 920) hx hb dL_law_915 (by decide) (fun c9 => ?_) (fun c9 => ?_)
              · have h := h.1 c9
                exact j920 _ _ _ _ _ _ _ _ _ _ _ hk S (lv_sub hl [2, 3, 4, 5, 6] rfl) h
              · have h := h.2 c9
                refine lv_iconst (v := 0) hx hb dL_law_918 (by decide) ?_
                exact mm_zret C S hr (Nat.le_trans (Nat.le_add_right _ _) hk) dL_law_919 h
          · have h := h.2 c9
            refine lv_iconst (v := 0) hx hb dL_law_901 (by decide) ?_
            exact mm_zret C S hr (Nat.le_trans (Nat.le_add_right _ _) hk) dL_law_902 h
        by_cases c10 : (v23 &&& 31) = 10
        · have h := h.2.2.2.2.2.2.2.2.2.2.1 c10
          rw [c10]
          refine lv_tableIn (tgt := 923) hx hb dL_law_40 (by decide) (by decide) rfl (by decide) ?_
          refine lv_aload_n hx hb dL_law_923 rfl (lv_at hl 1 rfl) ?_
          obtain ⟨hI, h⟩ := h
          obtain ⟨N239, N240, eM9, hdj, hN9⟩ := h
          subst eM9
          have h := hN9
          refine mm_V (As := []) (rest := []) C S hl.1 (mMet.frame hdj (wk_X1_errorCode hst0 h)) (T := TX1) rfl hI (lw_V q270 q271 q272 q48 q273) rfl pd_X1_errorCode ⟨Nat.le_of_ble_eq_true rfl, Nat.le_of_ble_eq_true rfl⟩ rfl rfl (Nat.le_of_ble_eq_true rfl) dL_law_924 rfl rfl hk (Nat.zero_add _) (fun v9 M232 H locs hP S hk => ?_) (fun E q ce M9 H9 locs9 hX => by obtain ⟨_, h9, _⟩ := hX; exact h9.elim)
          obtain ⟨_, ⟨v233, rfl, h⟩, eM8, hd9⟩ := hP
          have h := h hd9
          rw [← eM8] at h
          refine W.eq (g2 := F0 m 927 ls [.int v233]) rfl ?_
          refine lv_aload_n hx hb dL_law_927 rfl (lv_at hl 2 rfl) ?_
          obtain ⟨hI, h⟩ := h
          obtain ⟨N236, N237, eM9, hdj, hN9⟩ := h
          subst eM9
          have h := hN9
          refine mm_V (As := []) (rest := [.int v233]) C S hl.1 (mMet.frame hdj (wk_X4_errorCode hst0 h)) (T := TX4) rfl hI (lw_V q1929 q1930 q1931 q58 q1932) rfl pd_X4_errorCode ⟨Nat.le_of_ble_eq_true rfl, Nat.le_of_ble_eq_true rfl⟩ rfl rfl (Nat.le_of_ble_eq_true rfl) dL_law_928 rfl rfl hk (Nat.zero_add _) (fun v9 M234 H locs hP S hk => ?_) (fun E q ce M9 H9 locs9 hX => by obtain ⟨_, h9, _⟩ := hX; exact h9.elim)
          obtain ⟨_, ⟨v235, rfl, h⟩, eM8, hd9⟩ := hP
          have h := h hd9
          rw [← eM8] at h
          refine W.eq (g2 := F0 m 931 ls [.int v235, .int v233]) rfl ?_
          refine lv_icmp_eq (tgt := 2057) hx hb dL_law_931 (by decide) (fun c9 => ?_) (fun c9 => ?_)
          · have h := h.1 c9
            exact j2057 _ _ _ _ _ _ _ _ _ _ _ hk S hl h
          · have h := h.2 c9
            refine lv_iconst (v := 0) hx hb dL_law_934 (by decide) ?_
            exact mm_zret C S hr (Nat.le_trans (Nat.le_add_right _ _) hk) dL_law_935 h
        by_cases c11 : (v23 &&& 31) = 11
        · have h := h.2.2.2.2.2.2.2.2.2.2.2.1 c11
          rw [c11]
          refine lv_tableIn (tgt := 936) hx hb dL_law_40 (by decide) (by decide) rfl (by decide) ?_
          refine lv_aload_n hx hb dL_law_936 rfl (lv_at hl 1 rfl) ?_
          obtain ⟨hI, h⟩ := h
          obtain ⟨N249, N250, eM9, hdj, hN9⟩ := h
          subst eM9
          have h := hN9
          refine mm_V (As := []) (rest := []) C S hl.1 (mMet.frame hdj (wk_X1_errorOffset hst0 h)) (T := TX1) rfl hI (lw_V q274 q275 q276 q48 q277) rfl pd_X1_errorOffset ⟨Nat.le_of_ble_eq_true rfl, Nat.le_of_ble_eq_true rfl⟩ rfl rfl (Nat.le_of_ble_eq_true rfl) dL_law_937 rfl rfl hk (Nat.zero_add _) (fun v9 M242 H locs hP S hk => ?_) (fun E q ce M9 H9 locs9 hX => by obtain ⟨_, h9, _⟩ := hX; exact h9.elim)
          obtain ⟨_, ⟨v243, rfl, h⟩, eM8, hd9⟩ := hP
          have h := h hd9
          rw [← eM8] at h
          refine W.eq (g2 := F0 m 940 ls [.int v243]) rfl ?_
          refine lv_aload_n hx hb dL_law_940 rfl (lv_at hl 2 rfl) ?_
          obtain ⟨hI, h⟩ := h
          obtain ⟨N246, N247, eM9, hdj, hN9⟩ := h
          subst eM9
          have h := hN9
          refine mm_V (As := []) (rest := [.int v243]) C S hl.1 (mMet.frame hdj (wk_X4_errorOffset hst0 h)) (T := TX4) rfl hI (lw_V q1937 q1938 q1939 q58 q1940) rfl pd_X4_errorOffset ⟨Nat.le_of_ble_eq_true rfl, Nat.le_of_ble_eq_true rfl⟩ rfl rfl (Nat.le_of_ble_eq_true rfl) dL_law_941 rfl rfl hk (Nat.zero_add _) (fun v9 M244 H locs hP S hk => ?_) (fun E q ce M9 H9 locs9 hX => by obtain ⟨_, h9, _⟩ := hX; exact h9.elim)
          obtain ⟨_, ⟨v245, rfl, h⟩, eM8, hd9⟩ := hP
          have h := h hd9
          rw [← eM8] at h
          refine W.eq (g2 := F0 m 944 ls [.int v245, .int v243]) rfl ?_
          refine lv_icmp_eq (tgt := 2057) hx hb dL_law_944 (by decide) (fun c9 => ?_) (fun c9 => ?_)
          · have h := h.1 c9
            exact j2057 _ _ _ _ _ _ _ _ _ _ _ hk S hl h
          · have h := h.2 c9
            refine lv_iconst (v := 0) hx hb dL_law_947 (by decide) ?_
            exact mm_zret C S hr (Nat.le_trans (Nat.le_add_right _ _) hk) dL_law_948 h
        by_cases c12 : (v23 &&& 31) = 12
        · have h := h.2.2.2.2.2.2.2.2.2.2.2.2.1 c12
          rw [c12]
          refine lv_tableIn (tgt := 949) hx hb dL_law_40 (by decide) (by decide) rfl (by decide) ?_
          refine lv_aload_n hx hb dL_law_949 rfl (lv_at hl 1 rfl) ?_
          refine lv_aload_n hx hb dL_law_950 rfl (lv_at hl 0 rfl) ?_
          refine lv_iload hx hb dL_law_951 (lv_at hl 4 rfl) ?_
          refine lv_iconst (v := 1) hx hb dL_law_953 (by decide) ?_
          refine lv_iadd hx hb dL_law_954 ?_
          refine mm_iald13 C S h dL_law_955 (fun v252 h => ?_)
          refine lv_aload_n hx hb dL_law_956 rfl (lv_at hl 0 rfl) ?_
          refine lv_iload hx hb dL_law_957 (lv_at hl 4 rfl) ?_
          refine lv_iconst (v := 2) hx hb dL_law_959 (by decide) ?_
          refine lv_iadd hx hb dL_law_960 ?_
          refine mm_iald13 C S h dL_law_961 (fun v253 h => ?_)
          refine lv_aload_n hx hb dL_law_962 rfl (lv_at hl 3 rfl) ?_
          obtain ⟨b255, r256, hb9, h⟩ := h
          obtain ⟨N271, N272, eM9, hdj, hN9⟩ := h
          subst eM9
          have h := hN9
          refine mm_SX (As := [.ref a1, .int v252, .int v253, .ref a3]) (rest := []) C S hl.1 (mMet.frame hdj (wk_X0_routeAt hst0 h)) (lw_SW q1440 q1441 q47 q1442) pd_X0_routeAt ⟨Nat.le_of_ble_eq_true rfl, Nat.le_of_ble_eq_true rfl⟩ rfl rfl (Nat.le_of_ble_eq_true rfl) dL_law_963 rfl rfl hk hb9 (fun v9 M254 H locs hP S hk => ?_) (fun E q ce M9 H9 locs9 hX => by obtain ⟨_, h9, _⟩ := hX; exact h9.elim)
          obtain ⟨_, ⟨v257, rfl, h⟩, eM8, hd9⟩ := hP
          have h := h hd9
          rw [← eM8] at h
          refine W.eq (g2 := F0 m 966 ls [.int v257]) rfl ?_
          refine lv_istore (lv' := [(5, .int v257), (0, .ref a0), (1, .ref a1), (2, .ref a2), (3, .ref a3), (4, .int x4)]) hx hb dL_law_966 hl (by decide) rfl (fun ls hl => ?_)
          refine lv_aload_n hx hb dL_law_968 rfl (lv_at hl 3 rfl) ?_
          refine lv_aload_n hx hb dL_law_969 rfl (lv_at hl 1 rfl) ?_
          refine lv_iload hx hb dL_law_970 (lv_at hl 5 rfl) ?_
          refine lv_iconst (v := 1) hx hb dL_law_972 (by decide) ?_
          refine lv_iadd hx hb dL_law_973 ?_
          refine mm_iald13 C S h dL_law_974 (fun v258 h => ?_)
          refine lv_aload_n hx hb dL_law_975 rfl (lv_at hl 1 rfl) ?_
          refine lv_iload hx hb dL_law_976 (lv_at hl 5 rfl) ?_
          refine lv_iconst (v := 2) hx hb dL_law_978 (by decide) ?_
          refine lv_iadd hx hb dL_law_979 ?_
          refine mm_iald13 C S h dL_law_980 (fun v259 h => ?_)
          obtain ⟨hI, h⟩ := h
          obtain ⟨N268, N269, eM9, hdj, hN9⟩ := h
          subst eM9
          have h := hN9
          refine mm_V (As := [.int v258, .int v259]) (rest := []) C S hl.1 (mMet.frame hdj (wk_X4_routeAt hst0 h)) (T := TX4) rfl hI (lw_V q1941 q1942 q1943 q58 q1944) rfl pd_X4_routeAt ⟨Nat.le_of_ble_eq_true rfl, Nat.le_of_ble_eq_true rfl⟩ rfl rfl (Nat.le_of_ble_eq_true rfl) dL_law_981 rfl rfl hk (Nat.zero_add _) (fun v9 M260 H locs hP S hk => ?_) (fun E q ce M9 H9 locs9 hX => by obtain ⟨_, h9, _⟩ := hX; exact h9.elim)
          obtain ⟨_, ⟨v261, rfl, h⟩, eM8, hd9⟩ := hP
          have h := h hd9
          rw [← eM8] at h
          refine W.eq (g2 := F0 m 984 ls [.int v261]) rfl ?_
          refine lv_istore (lv' := [(6, .int v261), (5, .int v257), (0, .ref a0), (1, .ref a1), (2, .ref a2), (3, .ref a3), (4, .int x4)]) hx hb dL_law_984 hl (by decide) rfl (fun ls hl => ?_)
          refine lv_aload_n hx hb dL_law_986 rfl (lv_at hl 4 rfl) ?_
          obtain ⟨hI, h⟩ := h
          obtain ⟨N265, N266, eM9, hdj, hN9⟩ := h
          subst eM9
          have h := hN9
          refine mm_V (As := []) (rest := []) C S hl.1 (mMet.frame hdj (wk_X4_thrown hst0 h)) (T := TX4) rfl hI (lw_V q1819 q1820 q1821 q58 q1822) rfl pd_X4_thrown ⟨Nat.le_of_ble_eq_true rfl, Nat.le_of_ble_eq_true rfl⟩ rfl rfl (Nat.le_of_ble_eq_true rfl) dL_law_987 rfl rfl hk (Nat.zero_add _) (fun v9 M262 H locs hP S hk => ?_) (fun E q ce M9 H9 locs9 hX => by obtain ⟨_, h9, _⟩ := hX; exact h9.elim)
          obtain ⟨_, ⟨v263, rfl, h⟩, eM8, hd9⟩ := hP
          have h := h hd9
          rw [← eM8] at h
          refine W.eq (g2 := F0 m 990 ls [.int v263]) rfl ?_
          refine lv_iload hx hb dL_law_990 (lv_at hl 1 rfl) ?_
          refine lv_icmp_eq (tgt := 997) hx hb dL_law_992 (by decide) (fun c9 => ?_) (fun c9 => ?_)
          · have h := h.1 c9
            refine lv_iload hx hb dL_law_997 (lv_at hl 1 rfl) ?_
            refine lv_if_ne (tgt := 1014) hx hb dL_law_999 (by decide) (fun c9 => ?_) (fun c9 => ?_)
            · have h := h.1 c9
              exact j1014 _ _ _ _ _ _ _ _ _ _ _ hk S (lv_sub hl [2, 3, 4, 5, 6] rfl) h
            · have h := h.2 c9
              refine lv_aload_n hx hb dL_law_1002 rfl (lv_at hl 5 rfl) ?_
              refine lv_iconst (v := 0) hx hb dL_law_1003 (by decide) ?_
              refine mm_lald C S h dL_law_1004 (fun v264 h => ?_)
              refine lv_iload hx hb dL_law_1005 (lv_at hl 0 rfl) ?_
              refine lv_i2l hx hb dL_law_1007 rfl ?_
              refine W.lcmp hx hb dL_law_1008 ?_
              refine lv_if_eq (tgt := 1014) hx hb dL_law_1009 (by decide) (fun c9 => ?_) (fun c9 => ?_)
              · have h := h.1 c9
                exact j1014 _ _ _ _ _ _ _ _ _ _ _ hk S (lv_sub hl [2, 3, 4, 5, 6] rfl) h
              · have h := h.2 c9
                refine lv_iconst (v := 0) hx hb dL_law_1012 (by decide) ?_
                exact mm_zret C S hr (Nat.le_trans (Nat.le_add_right _ _) hk) dL_law_1013 h
          · have h := h.2 c9
            refine lv_iconst (v := 0) hx hb dL_law_995 (by decide) ?_
            exact mm_zret C S hr (Nat.le_trans (Nat.le_add_right _ _) hk) dL_law_996 h
        by_cases c13 : (v23 &&& 31) = 13
        · have h := h.2.2.2.2.2.2.2.2.2.2.2.2.2.1 c13
          rw [c13]
          refine lv_tableIn (tgt := 1017) hx hb dL_law_40 (by decide) (by decide) rfl (by decide) ?_
          refine lv_aload_n hx hb dL_law_1017 rfl (lv_at hl 1 rfl) ?_
          refine lv_aload_n hx hb dL_law_1018 rfl (lv_at hl 0 rfl) ?_
          refine lv_iload hx hb dL_law_1019 (lv_at hl 4 rfl) ?_
          refine lv_iconst (v := 1) hx hb dL_law_1021 (by decide) ?_
          refine lv_iadd hx hb dL_law_1022 ?_
          refine mm_iald13 C S h dL_law_1023 (fun v274 h => ?_)
          refine lv_aload_n hx hb dL_law_1024 rfl (lv_at hl 3 rfl) ?_
          obtain ⟨b276, r277, hb9, h⟩ := h
          obtain ⟨N291, N292, eM9, hdj, hN9⟩ := h
          subst eM9
          have h := hN9
          refine mm_SX (As := [.ref a1, .int v274, .ref a3]) (rest := []) C S hl.1 (mMet.frame hdj (wk_X0_routeLength hst0 h)) (lw_SW q1447 q1448 q47 q1449) pd_X0_routeLength ⟨Nat.le_of_ble_eq_true rfl, Nat.le_of_ble_eq_true rfl⟩ rfl rfl (Nat.le_of_ble_eq_true rfl) dL_law_1025 rfl rfl hk hb9 (fun v9 M275 H locs hP S hk => ?_) (fun E q ce M9 H9 locs9 hX => by obtain ⟨_, h9, _⟩ := hX; exact h9.elim)
          obtain ⟨_, ⟨v278, rfl, h⟩, eM8, hd9⟩ := hP
          have h := h hd9
          rw [← eM8] at h
          refine W.eq (g2 := F0 m 1028 ls [.int v278]) rfl ?_
          refine lv_istore (lv' := [(5, .int v278), (0, .ref a0), (1, .ref a1), (2, .ref a2), (3, .ref a3), (4, .int x4)]) hx hb dL_law_1028 hl (by decide) rfl (fun ls hl => ?_)
          refine lv_aload_n hx hb dL_law_1030 rfl (lv_at hl 3 rfl) ?_
          refine lv_aload_n hx hb dL_law_1031 rfl (lv_at hl 1 rfl) ?_
          refine lv_iload hx hb dL_law_1032 (lv_at hl 5 rfl) ?_
          refine lv_iconst (v := 1) hx hb dL_law_1034 (by decide) ?_
          refine lv_iadd hx hb dL_law_1035 ?_
          refine mm_iald13 C S h dL_law_1036 (fun v279 h => ?_)
          obtain ⟨hI, h⟩ := h
          obtain ⟨N288, N289, eM9, hdj, hN9⟩ := h
          subst eM9
          have h := hN9
          refine mm_V (As := [.int v279]) (rest := []) C S hl.1 (mMet.frame hdj (wk_X4_routeLength hst0 h)) (T := TX4) rfl hI (lw_V q1949 q1950 q1951 q58 q1952) rfl pd_X4_routeLength ⟨Nat.le_of_ble_eq_true rfl, Nat.le_of_ble_eq_true rfl⟩ rfl rfl (Nat.le_of_ble_eq_true rfl) dL_law_1037 rfl rfl hk (Nat.zero_add _) (fun v9 M280 H locs hP S hk => ?_) (fun E q ce M9 H9 locs9 hX => by obtain ⟨_, h9, _⟩ := hX; exact h9.elim)
          obtain ⟨_, ⟨v281, rfl, h⟩, eM8, hd9⟩ := hP
          have h := h hd9
          rw [← eM8] at h
          refine W.eq (g2 := F0 m 1040 ls [.int v281]) rfl ?_
          refine lv_istore (lv' := [(6, .int v281), (5, .int v278), (0, .ref a0), (1, .ref a1), (2, .ref a2), (3, .ref a3), (4, .int x4)]) hx hb dL_law_1040 hl (by decide) rfl (fun ls hl => ?_)
          refine lv_aload_n hx hb dL_law_1042 rfl (lv_at hl 4 rfl) ?_
          obtain ⟨hI, h⟩ := h
          obtain ⟨N285, N286, eM9, hdj, hN9⟩ := h
          subst eM9
          have h := hN9
          refine mm_V (As := []) (rest := []) C S hl.1 (mMet.frame hdj (wk_X4_thrown hst0 h)) (T := TX4) rfl hI (lw_V q1819 q1820 q1821 q58 q1822) rfl pd_X4_thrown ⟨Nat.le_of_ble_eq_true rfl, Nat.le_of_ble_eq_true rfl⟩ rfl rfl (Nat.le_of_ble_eq_true rfl) dL_law_1043 rfl rfl hk (Nat.zero_add _) (fun v9 M282 H locs hP S hk => ?_) (fun E q ce M9 H9 locs9 hX => by obtain ⟨_, h9, _⟩ := hX; exact h9.elim)
          obtain ⟨_, ⟨v283, rfl, h⟩, eM8, hd9⟩ := hP
          have h := h hd9
          rw [← eM8] at h
          refine W.eq (g2 := F0 m 1046 ls [.int v283]) rfl ?_
          refine lv_iload hx hb dL_law_1046 (lv_at hl 1 rfl) ?_
          refine lv_icmp_eq (tgt := 1053) hx hb dL_law_1048 (by decide) (fun c9 => ?_) (fun c9 => ?_)
          · have h := h.1 c9
            refine lv_iload hx hb dL_law_1053 (lv_at hl 1 rfl) ?_
            refine lv_if_ne (tgt := 1070) hx hb dL_law_1055 (by decide) (fun c9 => ?_) (fun c9 => ?_)
            · have h := h.1 c9
              exact j1070 _ _ _ _ _ _ _ _ _ _ _ hk S (lv_sub hl [2, 3, 4, 5, 6] rfl) h
            · have h := h.2 c9
              refine lv_aload_n hx hb dL_law_1058 rfl (lv_at hl 5 rfl) ?_
              refine lv_iconst (v := 0) hx hb dL_law_1059 (by decide) ?_
              refine mm_lald C S h dL_law_1060 (fun v284 h => ?_)
              refine lv_iload hx hb dL_law_1061 (lv_at hl 0 rfl) ?_
              refine lv_i2l hx hb dL_law_1063 rfl ?_
              refine W.lcmp hx hb dL_law_1064 ?_
              refine lv_if_eq (tgt := 1070) hx hb dL_law_1065 (by decide) (fun c9 => ?_) (fun c9 => ?_)
              · have h := h.1 c9
                exact j1070 _ _ _ _ _ _ _ _ _ _ _ hk S (lv_sub hl [2, 3, 4, 5, 6] rfl) h
              · have h := h.2 c9
                refine lv_iconst (v := 0) hx hb dL_law_1068 (by decide) ?_
                exact mm_zret C S hr (Nat.le_trans (Nat.le_add_right _ _) hk) dL_law_1069 h
          · have h := h.2 c9
            refine lv_iconst (v := 0) hx hb dL_law_1051 (by decide) ?_
            exact mm_zret C S hr (Nat.le_trans (Nat.le_add_right _ _) hk) dL_law_1052 h
        by_cases c14 : (v23 &&& 31) = 14
        · have h := h.2.2.2.2.2.2.2.2.2.2.2.2.2.2.1 c14
          rw [c14]
          refine lv_tableIn (tgt := 1073) hx hb dL_law_40 (by decide) (by decide) rfl (by decide) ?_
          refine lv_aload_n hx hb dL_law_1073 rfl (lv_at hl 1 rfl) ?_
          refine lv_aload_n hx hb dL_law_1074 rfl (lv_at hl 0 rfl) ?_
          refine lv_iload hx hb dL_law_1075 (lv_at hl 4 rfl) ?_
          refine lv_iconst (v := 1) hx hb dL_law_1077 (by decide) ?_
          refine lv_iadd hx hb dL_law_1078 ?_
          refine mm_iald13 C S h dL_law_1079 (fun v294 h => ?_)
          refine lv_aload_n hx hb dL_law_1080 rfl (lv_at hl 3 rfl) ?_
          obtain ⟨b296, r297, hb9, h⟩ := h
          obtain ⟨N311, N312, eM9, hdj, hN9⟩ := h
          subst eM9
          have h := hN9
          refine mm_SX (As := [.ref a1, .int v294, .ref a3]) (rest := []) C S hl.1 (mMet.frame hdj (wk_X0_worth hst0 h)) (lw_SW q1454 q1455 q47 q1456) pd_X0_worth ⟨Nat.le_of_ble_eq_true rfl, Nat.le_of_ble_eq_true rfl⟩ rfl rfl (Nat.le_of_ble_eq_true rfl) dL_law_1081 rfl rfl hk hb9 (fun v9 M295 H locs hP S hk => ?_) (fun E q ce M9 H9 locs9 hX => by obtain ⟨_, h9, _⟩ := hX; exact h9.elim)
          obtain ⟨_, ⟨v298, rfl, h⟩, eM8, hd9⟩ := hP
          have h := h hd9
          rw [← eM8] at h
          refine W.eq (g2 := F0 m 1084 ls [.int v298]) rfl ?_
          refine lv_istore (lv' := [(5, .int v298), (0, .ref a0), (1, .ref a1), (2, .ref a2), (3, .ref a3), (4, .int x4)]) hx hb dL_law_1084 hl (by decide) rfl (fun ls hl => ?_)
          refine lv_aload_n hx hb dL_law_1086 rfl (lv_at hl 3 rfl) ?_
          refine lv_aload_n hx hb dL_law_1087 rfl (lv_at hl 1 rfl) ?_
          refine lv_iload hx hb dL_law_1088 (lv_at hl 5 rfl) ?_
          refine lv_iconst (v := 1) hx hb dL_law_1090 (by decide) ?_
          refine lv_iadd hx hb dL_law_1091 ?_
          refine mm_iald13 C S h dL_law_1092 (fun v299 h => ?_)
          obtain ⟨hI, h⟩ := h
          obtain ⟨N308, N309, eM9, hdj, hN9⟩ := h
          subst eM9
          have h := hN9
          refine mm_V (As := [.int v299]) (rest := []) C S hl.1 (mMet.frame hdj (wk_X4_worth hst0 h)) (T := TX4) rfl hI (lw_V q1953 q1954 q1955 q58 q1956) rfl pd_X4_worth ⟨Nat.le_of_ble_eq_true rfl, Nat.le_of_ble_eq_true rfl⟩ rfl rfl (Nat.le_of_ble_eq_true rfl) dL_law_1093 rfl rfl hk (Nat.zero_add _) (fun v9 M300 H locs hP S hk => ?_) (fun E q ce M9 H9 locs9 hX => by obtain ⟨_, h9, _⟩ := hX; exact h9.elim)
          obtain ⟨_, ⟨g301, rfl, h⟩, eM8, hd9⟩ := hP
          have h := h hd9
          rw [← eM8] at h
          refine W.eq (g2 := F0 m 1096 ls [.long g301]) rfl ?_
          refine lv_lstore (lv' := [(6, .long g301), (5, .int v298), (0, .ref a0), (1, .ref a1), (2, .ref a2), (3, .ref a3), (4, .int x4)]) hx hb dL_law_1096 hl (by decide) rfl (fun ls hl => ?_)
          refine lv_aload_n hx hb dL_law_1098 rfl (lv_at hl 4 rfl) ?_
          obtain ⟨hI, h⟩ := h
          obtain ⟨N305, N306, eM9, hdj, hN9⟩ := h
          subst eM9
          have h := hN9
          refine mm_V (As := []) (rest := []) C S hl.1 (mMet.frame hdj (wk_X4_thrown hst0 h)) (T := TX4) rfl hI (lw_V q1819 q1820 q1821 q58 q1822) rfl pd_X4_thrown ⟨Nat.le_of_ble_eq_true rfl, Nat.le_of_ble_eq_true rfl⟩ rfl rfl (Nat.le_of_ble_eq_true rfl) dL_law_1099 rfl rfl hk (Nat.zero_add _) (fun v9 M302 H locs hP S hk => ?_) (fun E q ce M9 H9 locs9 hX => by obtain ⟨_, h9, _⟩ := hX; exact h9.elim)
          obtain ⟨_, ⟨v303, rfl, h⟩, eM8, hd9⟩ := hP
          have h := h hd9
          rw [← eM8] at h
          refine W.eq (g2 := F0 m 1102 ls [.int v303]) rfl ?_
          refine lv_iload hx hb dL_law_1102 (lv_at hl 1 rfl) ?_
          refine lv_icmp_eq (tgt := 1109) hx hb dL_law_1104 (by decide) (fun c9 => ?_) (fun c9 => ?_)
          · have h := h.1 c9
            refine lv_iload hx hb dL_law_1109 (lv_at hl 1 rfl) ?_
            refine lv_if_ne (tgt := 1125) hx hb dL_law_1111 (by decide) (fun c9 => ?_) (fun c9 => ?_)
            · have h := h.1 c9
              exact j1125 _ _ _ _ _ _ _ _ _ _ _ hk S (lv_sub hl [2, 3, 4, 5, 6] rfl) h
            · have h := h.2 c9
              refine lv_aload_n hx hb dL_law_1114 rfl (lv_at hl 5 rfl) ?_
              refine lv_iconst (v := 0) hx hb dL_law_1115 (by decide) ?_
              refine mm_lald C S h dL_law_1116 (fun v304 h => ?_)
              refine lv_lload hx hb dL_law_1117 (lv_at hl 0 rfl) ?_
              refine W.lcmp hx hb dL_law_1119 ?_
              refine lv_if_eq (tgt := 1125) hx hb dL_law_1120 (by decide) (fun c9 => ?_) (fun c9 => ?_)
              · have h := h.1 c9
                exact j1125 _ _ _ _ _ _ _ _ _ _ _ hk S (lv_sub hl [2, 3, 4, 5, 6] rfl) h
              · have h := h.2 c9
                refine lv_iconst (v := 0) hx hb dL_law_1123 (by decide) ?_
                exact mm_zret C S hr (Nat.le_trans (Nat.le_add_right _ _) hk) dL_law_1124 h
          · have h := h.2 c9
            refine lv_iconst (v := 0) hx hb dL_law_1107 (by decide) ?_
            exact mm_zret C S hr (Nat.le_trans (Nat.le_add_right _ _) hk) dL_law_1108 h
        by_cases c15 : (v23 &&& 31) = 15
        · have h := h.2.2.2.2.2.2.2.2.2.2.2.2.2.2.2.1 c15
          rw [c15]
          refine lv_tableIn (tgt := 1128) hx hb dL_law_40 (by decide) (by decide) rfl (by decide) ?_
          refine lv_aload_n hx hb dL_law_1128 rfl (lv_at hl 1 rfl) ?_
          obtain ⟨hI, h⟩ := h
          obtain ⟨N321, N322, eM9, hdj, hN9⟩ := h
          subst eM9
          have h := hN9
          refine mm_V (As := []) (rest := []) C S hl.1 (mMet.frame hdj (wk_X1_nextRoute hst0 h)) (T := TX1) rfl hI (lw_V q278 q279 q280 q48 q281) rfl pd_X1_nextRoute ⟨Nat.le_of_ble_eq_true rfl, Nat.le_of_ble_eq_true rfl⟩ rfl rfl (Nat.le_of_ble_eq_true rfl) dL_law_1129 rfl rfl hk (Nat.zero_add _) (fun v9 M314 H locs hP S hk => ?_) (fun E q ce M9 H9 locs9 hX => by obtain ⟨_, h9, _⟩ := hX; exact h9.elim)
          obtain ⟨_, ⟨v315, rfl, h⟩, eM8, hd9⟩ := hP
          have h := h hd9
          rw [← eM8] at h
          refine W.eq (g2 := F0 m 1132 ls [.int v315]) rfl ?_
          refine lv_aload_n hx hb dL_law_1132 rfl (lv_at hl 2 rfl) ?_
          obtain ⟨hI, h⟩ := h
          obtain ⟨N318, N319, eM9, hdj, hN9⟩ := h
          subst eM9
          have h := hN9
          refine mm_V (As := []) (rest := [.int v315]) C S hl.1 (mMet.frame hdj (wk_X4_nextRoute hst0 h)) (T := TX4) rfl hI (lw_V q1977 q1978 q1979 q58 q1980) rfl pd_X4_nextRoute ⟨Nat.le_of_ble_eq_true rfl, Nat.le_of_ble_eq_true rfl⟩ rfl rfl (Nat.le_of_ble_eq_true rfl) dL_law_1133 rfl rfl hk (Nat.zero_add _) (fun v9 M316 H locs hP S hk => ?_) (fun E q ce M9 H9 locs9 hX => by obtain ⟨_, h9, _⟩ := hX; exact h9.elim)
          obtain ⟨_, ⟨v317, rfl, h⟩, eM8, hd9⟩ := hP
          have h := h hd9
          rw [← eM8] at h
          refine W.eq (g2 := F0 m 1136 ls [.int v317, .int v315]) rfl ?_
          refine lv_icmp_eq (tgt := 2057) hx hb dL_law_1136 (by decide) (fun c9 => ?_) (fun c9 => ?_)
          · have h := h.1 c9
            exact j2057 _ _ _ _ _ _ _ _ _ _ _ hk S hl h
          · have h := h.2 c9
            refine lv_iconst (v := 0) hx hb dL_law_1139 (by decide) ?_
            exact mm_zret C S hr (Nat.le_trans (Nat.le_add_right _ _) hk) dL_law_1140 h
        by_cases c16 : (v23 &&& 31) = 16
        · have h := h.2.2.2.2.2.2.2.2.2.2.2.2.2.2.2.2.1 c16
          rw [c16]
          refine lv_tableIn (tgt := 1141) hx hb dL_law_40 (by decide) (by decide) rfl (by decide) ?_
          refine lv_aload_n hx hb dL_law_1141 rfl (lv_at hl 1 rfl) ?_
          refine lv_aload_n hx hb dL_law_1142 rfl (lv_at hl 3 rfl) ?_
          obtain ⟨b325, r326, hb9, h⟩ := h
          obtain ⟨N339, N340, eM9, hdj, hN9⟩ := h
          subst eM9
          have h := hN9
          refine mm_SX (As := [.ref a1, .ref a3]) (rest := []) C S hl.1 (mMet.frame hdj (wk_X0_addWalker hst0 h)) (lw_SW q1461 q1462 q47 q1463) pd_X0_addWalker ⟨Nat.le_of_ble_eq_true rfl, Nat.le_of_ble_eq_true rfl⟩ rfl rfl (Nat.le_of_ble_eq_true rfl) dL_law_1143 rfl rfl hk hb9 (fun v9 M324 H locs hP S hk => ?_) (fun E q ce M9 H9 locs9 hX => by obtain ⟨_, h9, _⟩ := hX; exact h9.elim)
          obtain ⟨_, ⟨v327, rfl, h⟩, eM8, hd9⟩ := hP
          have h := h hd9
          rw [← eM8] at h
          refine W.eq (g2 := F0 m 1146 ls [.int v327]) rfl ?_
          refine lv_istore (lv' := [(5, .int v327), (0, .ref a0), (1, .ref a1), (2, .ref a2), (3, .ref a3), (4, .int x4)]) hx hb dL_law_1146 hl (by decide) rfl (fun ls hl => ?_)
          refine lv_aload_n hx hb dL_law_1148 rfl (lv_at hl 3 rfl) ?_
          obtain ⟨hI, h⟩ := h
          obtain ⟨N336, N337, eM9, hdj, hN9⟩ := h
          subst eM9
          have h := hN9
          refine mm_V (As := []) (rest := []) C S hl.1 (mMet.frame hdj (wk_X4_addWalker hst0 h)) (T := TX4) rfl hI (lw_V q1981 q1982 q1983 q58 q1984) rfl pd_X4_addWalker ⟨Nat.le_of_ble_eq_true rfl, Nat.le_of_ble_eq_true rfl⟩ rfl rfl (Nat.le_of_ble_eq_true rfl) dL_law_1149 rfl rfl hk (Nat.zero_add _) (fun v9 M328 H locs hP S hk => ?_) (fun E q ce M9 H9 locs9 hX => by obtain ⟨_, h9, _⟩ := hX; exact h9.elim)
          obtain ⟨_, ⟨v329, rfl, h⟩, eM8, hd9⟩ := hP
          have h := h hd9
          rw [← eM8] at h
          refine W.eq (g2 := F0 m 1152 ls [.int v329]) rfl ?_
          refine lv_istore (lv' := [(6, .int v329), (5, .int v327), (0, .ref a0), (1, .ref a1), (2, .ref a2), (3, .ref a3), (4, .int x4)]) hx hb dL_law_1152 hl (by decide) rfl (fun ls hl => ?_)
          refine lv_aload_n hx hb dL_law_1154 rfl (lv_at hl 4 rfl) ?_
          obtain ⟨hI, h⟩ := h
          obtain ⟨N333, N334, eM9, hdj, hN9⟩ := h
          subst eM9
          have h := hN9
          refine mm_V (As := []) (rest := []) C S hl.1 (mMet.frame hdj (wk_X4_thrown hst0 h)) (T := TX4) rfl hI (lw_V q1819 q1820 q1821 q58 q1822) rfl pd_X4_thrown ⟨Nat.le_of_ble_eq_true rfl, Nat.le_of_ble_eq_true rfl⟩ rfl rfl (Nat.le_of_ble_eq_true rfl) dL_law_1155 rfl rfl hk (Nat.zero_add _) (fun v9 M330 H locs hP S hk => ?_) (fun E q ce M9 H9 locs9 hX => by obtain ⟨_, h9, _⟩ := hX; exact h9.elim)
          obtain ⟨_, ⟨v331, rfl, h⟩, eM8, hd9⟩ := hP
          have h := h hd9
          rw [← eM8] at h
          refine W.eq (g2 := F0 m 1158 ls [.int v331]) rfl ?_
          refine lv_iload hx hb dL_law_1158 (lv_at hl 1 rfl) ?_
          refine lv_icmp_eq (tgt := 1165) hx hb dL_law_1160 (by decide) (fun c9 => ?_) (fun c9 => ?_)
          · have h := h.1 c9
            refine lv_iload hx hb dL_law_1165 (lv_at hl 1 rfl) ?_
            refine lv_if_ne (tgt := 1182) hx hb dL_law_1167 (by decide) (fun c9 => ?_) (fun c9 => ?_)
            · have h := h.1 c9
              exact j1182 _ _ _ _ _ _ _ _ _ _ _ hk S (lv_sub hl [2, 3, 4, 5, 6] rfl) h
            · have h := h.2 c9
              refine lv_aload_n hx hb dL_law_1170 rfl (lv_at hl 5 rfl) ?_
              refine lv_iconst (v := 0) hx hb dL_law_1171 (by decide) ?_
              refine mm_lald C S h dL_law_1172 (fun v332 h => ?_)
              refine lv_iload hx hb dL_law_1173 (lv_at hl 0 rfl) ?_
              refine lv_i2l hx hb dL_law_1175 rfl ?_
              refine W.lcmp hx hb dL_law_1176 ?_
              refine lv_if_eq (tgt := 1182) hx hb dL_law_1177 (by decide) (fun c9 => ?_) (fun c9 => ?_)
              · have h := h.1 c9
                exact j1182 _ _ _ _ _ _ _ _ _ _ _ hk S (lv_sub hl [2, 3, 4, 5, 6] rfl) h
              · have h := h.2 c9
                refine lv_iconst (v := 0) hx hb dL_law_1180 (by decide) ?_
                exact mm_zret C S hr (Nat.le_trans (Nat.le_add_right _ _) hk) dL_law_1181 h
          · have h := h.2 c9
            refine lv_iconst (v := 0) hx hb dL_law_1163 (by decide) ?_
            exact mm_zret C S hr (Nat.le_trans (Nat.le_add_right _ _) hk) dL_law_1164 h
        by_cases c17 : (v23 &&& 31) = 17
        · have h := h.2.2.2.2.2.2.2.2.2.2.2.2.2.2.2.2.2.1 c17
          rw [c17]
          refine lv_tableIn (tgt := 1185) hx hb dL_law_40 (by decide) (by decide) rfl (by decide) ?_
          refine lv_aload_n hx hb dL_law_1185 rfl (lv_at hl 1 rfl) ?_
          refine lv_aload_n hx hb dL_law_1186 rfl (lv_at hl 0 rfl) ?_
          refine lv_iload hx hb dL_law_1187 (lv_at hl 4 rfl) ?_
          refine lv_iconst (v := 1) hx hb dL_law_1189 (by decide) ?_
          refine lv_iadd hx hb dL_law_1190 ?_
          refine mm_iald13 C S h dL_law_1191 (fun v342 h => ?_)
          refine lv_aload_n hx hb dL_law_1192 rfl (lv_at hl 0 rfl) ?_
          refine lv_iload hx hb dL_law_1193 (lv_at hl 4 rfl) ?_
          refine lv_iconst (v := 2) hx hb dL_law_1195 (by decide) ?_
          refine lv_iadd hx hb dL_law_1196 ?_
          refine mm_iald13 C S h dL_law_1197 (fun v343 h => ?_)
          refine lv_aload_n hx hb dL_law_1198 rfl (lv_at hl 0 rfl) ?_
          refine lv_iload hx hb dL_law_1199 (lv_at hl 4 rfl) ?_
          refine lv_iconst (v := 3) hx hb dL_law_1201 (by decide) ?_
          refine lv_iadd hx hb dL_law_1202 ?_
          refine mm_iald13 C S h dL_law_1203 (fun v344 h => ?_)
          refine lv_aload_n hx hb dL_law_1204 rfl (lv_at hl 3 rfl) ?_
          obtain ⟨b346, r347, hb9, h⟩ := h
          obtain ⟨N363, N364, eM9, hdj, hN9⟩ := h
          subst eM9
          have h := hN9
          refine mm_SX (As := [.ref a1, .int v342, .int v343, .int v344, .ref a3]) (rest := []) C S hl.1 (mMet.frame hdj (wk_X0_walk hst0 h)) (lw_SW q1482 q1483 q47 q1484) pd_X0_walk ⟨Nat.le_of_ble_eq_true rfl, Nat.le_of_ble_eq_true rfl⟩ rfl rfl (Nat.le_of_ble_eq_true rfl) dL_law_1205 rfl rfl hk hb9 (fun v9 M345 H locs hP S hk => ?_) (fun E q ce M9 H9 locs9 hX => by obtain ⟨_, h9, _⟩ := hX; exact h9.elim)
          obtain ⟨_, ⟨v348, rfl, h⟩, eM8, hd9⟩ := hP
          have h := h hd9
          rw [← eM8] at h
          refine W.eq (g2 := F0 m 1208 ls [.int v348]) rfl ?_
          refine lv_istore (lv' := [(5, .int v348), (0, .ref a0), (1, .ref a1), (2, .ref a2), (3, .ref a3), (4, .int x4)]) hx hb dL_law_1208 hl (by decide) rfl (fun ls hl => ?_)
          refine lv_aload_n hx hb dL_law_1210 rfl (lv_at hl 3 rfl) ?_
          refine lv_aload_n hx hb dL_law_1211 rfl (lv_at hl 1 rfl) ?_
          refine lv_iload hx hb dL_law_1212 (lv_at hl 5 rfl) ?_
          refine lv_iconst (v := 1) hx hb dL_law_1214 (by decide) ?_
          refine lv_iadd hx hb dL_law_1215 ?_
          refine mm_iald13 C S h dL_law_1216 (fun v349 h => ?_)
          refine lv_aload_n hx hb dL_law_1217 rfl (lv_at hl 1 rfl) ?_
          refine lv_iload hx hb dL_law_1218 (lv_at hl 5 rfl) ?_
          refine lv_iconst (v := 2) hx hb dL_law_1220 (by decide) ?_
          refine lv_iadd hx hb dL_law_1221 ?_
          refine mm_iald13 C S h dL_law_1222 (fun v350 h => ?_)
          refine lv_aload_n hx hb dL_law_1223 rfl (lv_at hl 1 rfl) ?_
          refine lv_iload hx hb dL_law_1224 (lv_at hl 5 rfl) ?_
          refine lv_iconst (v := 3) hx hb dL_law_1226 (by decide) ?_
          refine lv_iadd hx hb dL_law_1227 ?_
          refine mm_iald13 C S h dL_law_1228 (fun v351 h => ?_)
          obtain ⟨hI, h⟩ := h
          obtain ⟨N360, N361, eM9, hdj, hN9⟩ := h
          subst eM9
          have h := hN9
          refine mm_V (As := [.int v349, .int v350, .int v351]) (rest := []) C S hl.1 (mMet.frame hdj (wk_X4_walk hst0 h)) (T := TX4) rfl hI (lw_V q1985 q1986 q1987 q58 q1988) rfl pd_X4_walk ⟨Nat.le_of_ble_eq_true rfl, Nat.le_of_ble_eq_true rfl⟩ rfl rfl (Nat.le_of_ble_eq_true rfl) dL_law_1229 rfl rfl hk (Nat.zero_add _) (fun v9 M352 H locs hP S hk => ?_) (fun E q ce M9 H9 locs9 hX => by obtain ⟨_, h9, _⟩ := hX; exact h9.elim)
          obtain ⟨_, ⟨v353, rfl, h⟩, eM8, hd9⟩ := hP
          have h := h hd9
          rw [← eM8] at h
          refine W.eq (g2 := F0 m 1232 ls [.int v353]) rfl ?_
          refine lv_istore (lv' := [(6, .int v353), (5, .int v348), (0, .ref a0), (1, .ref a1), (2, .ref a2), (3, .ref a3), (4, .int x4)]) hx hb dL_law_1232 hl (by decide) rfl (fun ls hl => ?_)
          refine lv_aload_n hx hb dL_law_1234 rfl (lv_at hl 4 rfl) ?_
          obtain ⟨hI, h⟩ := h
          obtain ⟨N357, N358, eM9, hdj, hN9⟩ := h
          subst eM9
          have h := hN9
          refine mm_V (As := []) (rest := []) C S hl.1 (mMet.frame hdj (wk_X4_thrown hst0 h)) (T := TX4) rfl hI (lw_V q1819 q1820 q1821 q58 q1822) rfl pd_X4_thrown ⟨Nat.le_of_ble_eq_true rfl, Nat.le_of_ble_eq_true rfl⟩ rfl rfl (Nat.le_of_ble_eq_true rfl) dL_law_1235 rfl rfl hk (Nat.zero_add _) (fun v9 M354 H locs hP S hk => ?_) (fun E q ce M9 H9 locs9 hX => by obtain ⟨_, h9, _⟩ := hX; exact h9.elim)
          obtain ⟨_, ⟨v355, rfl, h⟩, eM8, hd9⟩ := hP
          have h := h hd9
          rw [← eM8] at h
          refine W.eq (g2 := F0 m 1238 ls [.int v355]) rfl ?_
          refine lv_iload hx hb dL_law_1238 (lv_at hl 1 rfl) ?_
          refine lv_icmp_eq (tgt := 1245) hx hb dL_law_1240 (by decide) (fun c9 => ?_) (fun c9 => ?_)
          · have h := h.1 c9
            refine lv_iload hx hb dL_law_1245 (lv_at hl 1 rfl) ?_
            refine lv_if_ne (tgt := 1262) hx hb dL_law_1247 (by decide) (fun c9 => ?_) (fun c9 => ?_)
            · have h := h.1 c9
              exact j1262 _ _ _ _ _ _ _ _ _ _ _ hk S (lv_sub hl [2, 3, 4, 5, 6] rfl) h
            · have h := h.2 c9
              refine lv_aload_n hx hb dL_law_1250 rfl (lv_at hl 5 rfl) ?_
              refine lv_iconst (v := 0) hx hb dL_law_1251 (by decide) ?_
              refine mm_lald C S h dL_law_1252 (fun v356 h => ?_)
              refine lv_iload hx hb dL_law_1253 (lv_at hl 0 rfl) ?_
              refine lv_i2l hx hb dL_law_1255 rfl ?_
              refine W.lcmp hx hb dL_law_1256 ?_
              refine lv_if_eq (tgt := 1262) hx hb dL_law_1257 (by decide) (fun c9 => ?_) (fun c9 => ?_)
              · have h := h.1 c9
                exact j1262 _ _ _ _ _ _ _ _ _ _ _ hk S (lv_sub hl [2, 3, 4, 5, 6] rfl) h
              · have h := h.2 c9
                refine lv_iconst (v := 0) hx hb dL_law_1260 (by decide) ?_
                exact mm_zret C S hr (Nat.le_trans (Nat.le_add_right _ _) hk) dL_law_1261 h
          · have h := h.2 c9
            refine lv_iconst (v := 0) hx hb dL_law_1243 (by decide) ?_
            exact mm_zret C S hr (Nat.le_trans (Nat.le_add_right _ _) hk) dL_law_1244 h
        by_cases c18 : (v23 &&& 31) = 18
        · have h := h.2.2.2.2.2.2.2.2.2.2.2.2.2.2.2.2.2.2.1 c18
          rw [c18]
          refine lv_tableIn (tgt := 1265) hx hb dL_law_40 (by decide) (by decide) rfl (by decide) ?_
          refine lv_aload_n hx hb dL_law_1265 rfl (lv_at hl 1 rfl) ?_
          refine lv_aload_n hx hb dL_law_1266 rfl (lv_at hl 0 rfl) ?_
          refine lv_iload hx hb dL_law_1267 (lv_at hl 4 rfl) ?_
          refine lv_iconst (v := 1) hx hb dL_law_1269 (by decide) ?_
          refine lv_iadd hx hb dL_law_1270 ?_
          refine mm_iald13 C S h dL_law_1271 (fun v366 h => ?_)
          refine lv_aload_n hx hb dL_law_1272 rfl (lv_at hl 0 rfl) ?_
          refine lv_iload hx hb dL_law_1273 (lv_at hl 4 rfl) ?_
          refine lv_iconst (v := 2) hx hb dL_law_1275 (by decide) ?_
          refine lv_iadd hx hb dL_law_1276 ?_
          refine mm_iald13 C S h dL_law_1277 (fun v367 h => ?_)
          refine lv_aload_n hx hb dL_law_1278 rfl (lv_at hl 0 rfl) ?_
          refine lv_iload hx hb dL_law_1279 (lv_at hl 4 rfl) ?_
          refine lv_iconst (v := 3) hx hb dL_law_1281 (by decide) ?_
          refine lv_iadd hx hb dL_law_1282 ?_
          refine mm_iald13 C S h dL_law_1283 (fun v368 h => ?_)
          refine lv_aload_n hx hb dL_law_1284 rfl (lv_at hl 0 rfl) ?_
          refine lv_iload hx hb dL_law_1285 (lv_at hl 4 rfl) ?_
          refine lv_iconst (v := 4) hx hb dL_law_1287 (by decide) ?_
          refine lv_iadd hx hb dL_law_1288 ?_
          refine mm_iald13 C S h dL_law_1289 (fun v369 h => ?_)
          refine lv_aload_n hx hb dL_law_1290 rfl (lv_at hl 0 rfl) ?_
          refine lv_iload hx hb dL_law_1291 (lv_at hl 4 rfl) ?_
          refine lv_iconst (v := 5) hx hb dL_law_1293 (by decide) ?_
          refine lv_iadd hx hb dL_law_1294 ?_
          refine mm_iald13 C S h dL_law_1295 (fun v370 h => ?_)
          refine lv_aload_n hx hb dL_law_1296 rfl (lv_at hl 3 rfl) ?_
          obtain ⟨b372, r373, hb9, h⟩ := h
          obtain ⟨N391, N392, eM9, hdj, hN9⟩ := h
          subst eM9
          have h := hN9
          refine mm_SX (As := [.ref a1, .int v366, .int v367, .int v368, .int v369, .int v370, .ref a3]) (rest := []) C S hl.1 (mMet.frame hdj (wk_X0_note hst0 h)) (lw_SW q1521 q1522 q47 q1523) pd_X0_note ⟨Nat.le_of_ble_eq_true rfl, Nat.le_of_ble_eq_true rfl⟩ rfl rfl (Nat.le_of_ble_eq_true rfl) dL_law_1297 rfl rfl hk hb9 (fun v9 M371 H locs hP S hk => ?_) (fun E q ce M9 H9 locs9 hX => by obtain ⟨_, h9, _⟩ := hX; exact h9.elim)
          obtain ⟨_, ⟨v374, rfl, h⟩, eM8, hd9⟩ := hP
          have h := h hd9
          rw [← eM8] at h
          refine W.eq (g2 := F0 m 1300 ls [.int v374]) rfl ?_
          refine lv_istore (lv' := [(5, .int v374), (0, .ref a0), (1, .ref a1), (2, .ref a2), (3, .ref a3), (4, .int x4)]) hx hb dL_law_1300 hl (by decide) rfl (fun ls hl => ?_)
          refine lv_aload_n hx hb dL_law_1302 rfl (lv_at hl 3 rfl) ?_
          refine lv_aload_n hx hb dL_law_1303 rfl (lv_at hl 1 rfl) ?_
          refine lv_iload hx hb dL_law_1304 (lv_at hl 5 rfl) ?_
          refine lv_iconst (v := 1) hx hb dL_law_1306 (by decide) ?_
          refine lv_iadd hx hb dL_law_1307 ?_
          refine mm_iald13 C S h dL_law_1308 (fun v375 h => ?_)
          refine lv_aload_n hx hb dL_law_1309 rfl (lv_at hl 1 rfl) ?_
          refine lv_iload hx hb dL_law_1310 (lv_at hl 5 rfl) ?_
          refine lv_iconst (v := 2) hx hb dL_law_1312 (by decide) ?_
          refine lv_iadd hx hb dL_law_1313 ?_
          refine mm_iald13 C S h dL_law_1314 (fun v376 h => ?_)
          refine lv_aload_n hx hb dL_law_1315 rfl (lv_at hl 1 rfl) ?_
          refine lv_iload hx hb dL_law_1316 (lv_at hl 5 rfl) ?_
          refine lv_iconst (v := 3) hx hb dL_law_1318 (by decide) ?_
          refine lv_iadd hx hb dL_law_1319 ?_
          refine mm_iald13 C S h dL_law_1320 (fun v377 h => ?_)
          refine lv_aload_n hx hb dL_law_1321 rfl (lv_at hl 1 rfl) ?_
          refine lv_iload hx hb dL_law_1322 (lv_at hl 5 rfl) ?_
          refine lv_iconst (v := 4) hx hb dL_law_1324 (by decide) ?_
          refine lv_iadd hx hb dL_law_1325 ?_
          refine mm_iald13 C S h dL_law_1326 (fun v378 h => ?_)
          refine lv_aload_n hx hb dL_law_1327 rfl (lv_at hl 1 rfl) ?_
          refine lv_iload hx hb dL_law_1328 (lv_at hl 5 rfl) ?_
          refine lv_iconst (v := 5) hx hb dL_law_1330 (by decide) ?_
          refine lv_iadd hx hb dL_law_1331 ?_
          refine mm_iald13 C S h dL_law_1332 (fun v379 h => ?_)
          obtain ⟨hI, h⟩ := h
          obtain ⟨N388, N389, eM9, hdj, hN9⟩ := h
          subst eM9
          have h := hN9
          refine mm_V (As := [.int v375, .int v376, .int v377, .int v378, .int v379]) (rest := []) C S hl.1 (mMet.frame hdj (wk_X4_note hst0 h)) (T := TX4) rfl hI (lw_V q1993 q1994 q1995 q58 q1996) rfl pd_X4_note ⟨Nat.le_of_ble_eq_true rfl, Nat.le_of_ble_eq_true rfl⟩ rfl rfl (Nat.le_of_ble_eq_true rfl) dL_law_1333 rfl rfl hk (Nat.zero_add _) (fun v9 M380 H locs hP S hk => ?_) (fun E q ce M9 H9 locs9 hX => by obtain ⟨_, h9, _⟩ := hX; exact h9.elim)
          obtain ⟨_, ⟨v381, rfl, h⟩, eM8, hd9⟩ := hP
          have h := h hd9
          rw [← eM8] at h
          refine W.eq (g2 := F0 m 1336 ls [.int v381]) rfl ?_
          refine lv_istore (lv' := [(6, .int v381), (5, .int v374), (0, .ref a0), (1, .ref a1), (2, .ref a2), (3, .ref a3), (4, .int x4)]) hx hb dL_law_1336 hl (by decide) rfl (fun ls hl => ?_)
          refine lv_aload_n hx hb dL_law_1338 rfl (lv_at hl 4 rfl) ?_
          obtain ⟨hI, h⟩ := h
          obtain ⟨N385, N386, eM9, hdj, hN9⟩ := h
          subst eM9
          have h := hN9
          refine mm_V (As := []) (rest := []) C S hl.1 (mMet.frame hdj (wk_X4_thrown hst0 h)) (T := TX4) rfl hI (lw_V q1819 q1820 q1821 q58 q1822) rfl pd_X4_thrown ⟨Nat.le_of_ble_eq_true rfl, Nat.le_of_ble_eq_true rfl⟩ rfl rfl (Nat.le_of_ble_eq_true rfl) dL_law_1339 rfl rfl hk (Nat.zero_add _) (fun v9 M382 H locs hP S hk => ?_) (fun E q ce M9 H9 locs9 hX => by obtain ⟨_, h9, _⟩ := hX; exact h9.elim)
          obtain ⟨_, ⟨v383, rfl, h⟩, eM8, hd9⟩ := hP
          have h := h hd9
          rw [← eM8] at h
          refine W.eq (g2 := F0 m 1342 ls [.int v383]) rfl ?_
          refine lv_iload hx hb dL_law_1342 (lv_at hl 1 rfl) ?_
          refine lv_icmp_eq (tgt := 1349) hx hb dL_law_1344 (by decide) (fun c9 => ?_) (fun c9 => ?_)
          · have h := h.1 c9
            refine lv_iload hx hb dL_law_1349 (lv_at hl 1 rfl) ?_
            refine lv_if_ne (tgt := 1366) hx hb dL_law_1351 (by decide) (fun c9 => ?_) (fun c9 => ?_)
            · have h := h.1 c9
              exact j1366 _ _ _ _ _ _ _ _ _ _ _ hk S (lv_sub hl [2, 3, 4, 5, 6] rfl) h
            · have h := h.2 c9
              refine lv_aload_n hx hb dL_law_1354 rfl (lv_at hl 5 rfl) ?_
              refine lv_iconst (v := 0) hx hb dL_law_1355 (by decide) ?_
              refine mm_lald C S h dL_law_1356 (fun v384 h => ?_)
              refine lv_iload hx hb dL_law_1357 (lv_at hl 0 rfl) ?_
              refine lv_i2l hx hb dL_law_1359 rfl ?_
              refine W.lcmp hx hb dL_law_1360 ?_
              refine lv_if_eq (tgt := 1366) hx hb dL_law_1361 (by decide) (fun c9 => ?_) (fun c9 => ?_)
              · have h := h.1 c9
                exact j1366 _ _ _ _ _ _ _ _ _ _ _ hk S (lv_sub hl [2, 3, 4, 5, 6] rfl) h
              · have h := h.2 c9
                refine lv_iconst (v := 0) hx hb dL_law_1364 (by decide) ?_
                exact mm_zret C S hr (Nat.le_trans (Nat.le_add_right _ _) hk) dL_law_1365 h
          · have h := h.2 c9
            refine lv_iconst (v := 0) hx hb dL_law_1347 (by decide) ?_
            exact mm_zret C S hr (Nat.le_trans (Nat.le_add_right _ _) hk) dL_law_1348 h
        by_cases c19 : (v23 &&& 31) = 19
        · have h := h.2.2.2.2.2.2.2.2.2.2.2.2.2.2.2.2.2.2.2.1 c19
          rw [c19]
          refine lv_tableIn (tgt := 1369) hx hb dL_law_40 (by decide) (by decide) rfl (by decide) ?_
          refine lv_aload_n hx hb dL_law_1369 rfl (lv_at hl 1 rfl) ?_
          refine lv_aload_n hx hb dL_law_1370 rfl (lv_at hl 0 rfl) ?_
          refine lv_iload hx hb dL_law_1371 (lv_at hl 4 rfl) ?_
          refine lv_iconst (v := 1) hx hb dL_law_1373 (by decide) ?_
          refine lv_iadd hx hb dL_law_1374 ?_
          refine mm_iald13 C S h dL_law_1375 (fun v394 h => ?_)
          refine lv_aload_n hx hb dL_law_1376 rfl (lv_at hl 0 rfl) ?_
          refine lv_iload hx hb dL_law_1377 (lv_at hl 4 rfl) ?_
          refine lv_iconst (v := 2) hx hb dL_law_1379 (by decide) ?_
          refine lv_iadd hx hb dL_law_1380 ?_
          refine mm_iald13 C S h dL_law_1381 (fun v395 h => ?_)
          refine lv_if_eq (tgt := 1389) hx hb dL_law_1382 (by decide) (fun c9 => ?_) (fun c9 => ?_)
          · have h := h.1 c9
            refine lv_iconst (v := 0) hx hb dL_law_1389 (by decide) ?_
            exact j1390 _ _ _ _ _ _ _ _ _ _ _ _ _ _ hk S hl h
          · have h := h.2 c9
            refine lv_iconst (v := 1) hx hb dL_law_1385 (by decide) ?_
            refine lv_goto (tgt := 1390) hx hb dL_law_1386 (by decide) ?_
            exact j1390 _ _ _ _ _ _ _ _ _ _ _ _ _ _ hk S hl h
        by_cases c20 : (v23 &&& 31) = 20
        · have h := h.2.2.2.2.2.2.2.2.2.2.2.2.2.2.2.2.2.2.2.2.1 c20
          rw [c20]
          refine lv_tableIn (tgt := 1453) hx hb dL_law_40 (by decide) (by decide) rfl (by decide) ?_
          refine lv_aload_n hx hb dL_law_1453 rfl (lv_at hl 1 rfl) ?_
          refine lv_aload_n hx hb dL_law_1454 rfl (lv_at hl 0 rfl) ?_
          refine lv_iload hx hb dL_law_1455 (lv_at hl 4 rfl) ?_
          refine lv_iconst (v := 1) hx hb dL_law_1457 (by decide) ?_
          refine lv_iadd hx hb dL_law_1458 ?_
          refine mm_iald13 C S h dL_law_1459 (fun v396 h => ?_)
          refine lv_aload_n hx hb dL_law_1460 rfl (lv_at hl 0 rfl) ?_
          refine lv_iload hx hb dL_law_1461 (lv_at hl 4 rfl) ?_
          refine lv_iconst (v := 2) hx hb dL_law_1463 (by decide) ?_
          refine lv_iadd hx hb dL_law_1464 ?_
          refine mm_iald13 C S h dL_law_1465 (fun v397 h => ?_)
          refine lv_aload_n hx hb dL_law_1466 rfl (lv_at hl 3 rfl) ?_
          obtain ⟨b399, r400, hb9, h⟩ := h
          obtain ⟨N415, N416, eM9, hdj, hN9⟩ := h
          subst eM9
          have h := hN9
          refine mm_SX (As := [.ref a1, .int v396, .int v397, .ref a3]) (rest := []) C S hl.1 (mMet.frame hdj (wk_X0_walkAt hst0 h)) (lw_SW q1610 q1611 q47 q1612) pd_X0_walkAt ⟨Nat.le_of_ble_eq_true rfl, Nat.le_of_ble_eq_true rfl⟩ rfl rfl (Nat.le_of_ble_eq_true rfl) dL_law_1467 rfl rfl hk hb9 (fun v9 M398 H locs hP S hk => ?_) (fun E q ce M9 H9 locs9 hX => by obtain ⟨_, h9, _⟩ := hX; exact h9.elim)
          obtain ⟨_, ⟨v401, rfl, h⟩, eM8, hd9⟩ := hP
          have h := h hd9
          rw [← eM8] at h
          refine W.eq (g2 := F0 m 1470 ls [.int v401]) rfl ?_
          refine lv_istore (lv' := [(5, .int v401), (0, .ref a0), (1, .ref a1), (2, .ref a2), (3, .ref a3), (4, .int x4)]) hx hb dL_law_1470 hl (by decide) rfl (fun ls hl => ?_)
          refine lv_aload_n hx hb dL_law_1472 rfl (lv_at hl 3 rfl) ?_
          refine lv_aload_n hx hb dL_law_1473 rfl (lv_at hl 1 rfl) ?_
          refine lv_iload hx hb dL_law_1474 (lv_at hl 5 rfl) ?_
          refine lv_iconst (v := 1) hx hb dL_law_1476 (by decide) ?_
          refine lv_iadd hx hb dL_law_1477 ?_
          refine mm_iald13 C S h dL_law_1478 (fun v402 h => ?_)
          refine lv_aload_n hx hb dL_law_1479 rfl (lv_at hl 1 rfl) ?_
          refine lv_iload hx hb dL_law_1480 (lv_at hl 5 rfl) ?_
          refine lv_iconst (v := 2) hx hb dL_law_1482 (by decide) ?_
          refine lv_iadd hx hb dL_law_1483 ?_
          refine mm_iald13 C S h dL_law_1484 (fun v403 h => ?_)
          obtain ⟨hI, h⟩ := h
          obtain ⟨N412, N413, eM9, hdj, hN9⟩ := h
          subst eM9
          have h := hN9
          refine mm_V (As := [.int v402, .int v403]) (rest := []) C S hl.1 (mMet.frame hdj (wk_X4_walkAt hst0 h)) (T := TX4) rfl hI (lw_V q2029 q2030 q2031 q58 q2032) rfl pd_X4_walkAt ⟨Nat.le_of_ble_eq_true rfl, Nat.le_of_ble_eq_true rfl⟩ rfl rfl (Nat.le_of_ble_eq_true rfl) dL_law_1485 rfl rfl hk (Nat.zero_add _) (fun v9 M404 H locs hP S hk => ?_) (fun E q ce M9 H9 locs9 hX => by obtain ⟨_, h9, _⟩ := hX; exact h9.elim)
          obtain ⟨_, ⟨v405, rfl, h⟩, eM8, hd9⟩ := hP
          have h := h hd9
          rw [← eM8] at h
          refine W.eq (g2 := F0 m 1488 ls [.int v405]) rfl ?_
          refine lv_istore (lv' := [(6, .int v405), (5, .int v401), (0, .ref a0), (1, .ref a1), (2, .ref a2), (3, .ref a3), (4, .int x4)]) hx hb dL_law_1488 hl (by decide) rfl (fun ls hl => ?_)
          refine lv_aload_n hx hb dL_law_1490 rfl (lv_at hl 4 rfl) ?_
          obtain ⟨hI, h⟩ := h
          obtain ⟨N409, N410, eM9, hdj, hN9⟩ := h
          subst eM9
          have h := hN9
          refine mm_V (As := []) (rest := []) C S hl.1 (mMet.frame hdj (wk_X4_thrown hst0 h)) (T := TX4) rfl hI (lw_V q1819 q1820 q1821 q58 q1822) rfl pd_X4_thrown ⟨Nat.le_of_ble_eq_true rfl, Nat.le_of_ble_eq_true rfl⟩ rfl rfl (Nat.le_of_ble_eq_true rfl) dL_law_1491 rfl rfl hk (Nat.zero_add _) (fun v9 M406 H locs hP S hk => ?_) (fun E q ce M9 H9 locs9 hX => by obtain ⟨_, h9, _⟩ := hX; exact h9.elim)
          obtain ⟨_, ⟨v407, rfl, h⟩, eM8, hd9⟩ := hP
          have h := h hd9
          rw [← eM8] at h
          refine W.eq (g2 := F0 m 1494 ls [.int v407]) rfl ?_
          refine lv_iload hx hb dL_law_1494 (lv_at hl 1 rfl) ?_
          refine lv_icmp_eq (tgt := 1501) hx hb dL_law_1496 (by decide) (fun c9 => ?_) (fun c9 => ?_)
          · have h := h.1 c9
            refine lv_iload hx hb dL_law_1501 (lv_at hl 1 rfl) ?_
            refine lv_if_ne (tgt := 1518) hx hb dL_law_1503 (by decide) (fun c9 => ?_) (fun c9 => ?_)
            · have h := h.1 c9
              exact j1518 _ _ _ _ _ _ _ _ _ _ _ hk S (lv_sub hl [2, 3, 4, 5, 6] rfl) h
            · have h := h.2 c9
              refine lv_aload_n hx hb dL_law_1506 rfl (lv_at hl 5 rfl) ?_
              refine lv_iconst (v := 0) hx hb dL_law_1507 (by decide) ?_
              refine mm_lald C S h dL_law_1508 (fun v408 h => ?_)
              refine lv_iload hx hb dL_law_1509 (lv_at hl 0 rfl) ?_
              refine lv_i2l hx hb dL_law_1511 rfl ?_
              refine W.lcmp hx hb dL_law_1512 ?_
              refine lv_if_eq (tgt := 1518) hx hb dL_law_1513 (by decide) (fun c9 => ?_) (fun c9 => ?_)
              · have h := h.1 c9
                exact j1518 _ _ _ _ _ _ _ _ _ _ _ hk S (lv_sub hl [2, 3, 4, 5, 6] rfl) h
              · have h := h.2 c9
                refine lv_iconst (v := 0) hx hb dL_law_1516 (by decide) ?_
                exact mm_zret C S hr (Nat.le_trans (Nat.le_add_right _ _) hk) dL_law_1517 h
          · have h := h.2 c9
            refine lv_iconst (v := 0) hx hb dL_law_1499 (by decide) ?_
            exact mm_zret C S hr (Nat.le_trans (Nat.le_add_right _ _) hk) dL_law_1500 h
        by_cases c21 : (v23 &&& 31) = 21
        · have h := h.2.2.2.2.2.2.2.2.2.2.2.2.2.2.2.2.2.2.2.2.2.1 c21
          rw [c21]
          refine lv_tableIn (tgt := 1521) hx hb dL_law_40 (by decide) (by decide) rfl (by decide) ?_
          refine lv_aload_n hx hb dL_law_1521 rfl (lv_at hl 1 rfl) ?_
          refine lv_aload_n hx hb dL_law_1522 rfl (lv_at hl 0 rfl) ?_
          refine lv_iload hx hb dL_law_1523 (lv_at hl 4 rfl) ?_
          refine lv_iconst (v := 1) hx hb dL_law_1525 (by decide) ?_
          refine lv_iadd hx hb dL_law_1526 ?_
          refine mm_iald13 C S h dL_law_1527 (fun v418 h => ?_)
          refine lv_aload_n hx hb dL_law_1528 rfl (lv_at hl 0 rfl) ?_
          refine lv_iload hx hb dL_law_1529 (lv_at hl 4 rfl) ?_
          refine lv_iconst (v := 2) hx hb dL_law_1531 (by decide) ?_
          refine lv_iadd hx hb dL_law_1532 ?_
          refine mm_iald13 C S h dL_law_1533 (fun v419 h => ?_)
          refine lv_aload_n hx hb dL_law_1534 rfl (lv_at hl 0 rfl) ?_
          refine lv_iload hx hb dL_law_1535 (lv_at hl 4 rfl) ?_
          refine lv_iconst (v := 3) hx hb dL_law_1537 (by decide) ?_
          refine lv_iadd hx hb dL_law_1538 ?_
          refine mm_iald13 C S h dL_law_1539 (fun v420 h => ?_)
          refine lv_aload_n hx hb dL_law_1540 rfl (lv_at hl 3 rfl) ?_
          obtain ⟨b422, r423, hb9, h⟩ := h
          obtain ⟨N439, N440, eM9, hdj, hN9⟩ := h
          subst eM9
          have h := hN9
          refine mm_SX (As := [.ref a1, .int v418, .int v419, .int v420, .ref a3]) (rest := []) C S hl.1 (mMet.frame hdj (wk_X0_curve hst0 h)) (lw_SW q1617 q1618 q47 q1619) pd_X0_curve ⟨Nat.le_of_ble_eq_true rfl, Nat.le_of_ble_eq_true rfl⟩ rfl rfl (Nat.le_of_ble_eq_true rfl) dL_law_1541 rfl rfl hk hb9 (fun v9 M421 H locs hP S hk => ?_) (fun E q ce M9 H9 locs9 hX => by obtain ⟨_, h9, _⟩ := hX; exact h9.elim)
          obtain ⟨_, ⟨v424, rfl, h⟩, eM8, hd9⟩ := hP
          have h := h hd9
          rw [← eM8] at h
          refine W.eq (g2 := F0 m 1544 ls [.int v424]) rfl ?_
          refine lv_istore (lv' := [(5, .int v424), (0, .ref a0), (1, .ref a1), (2, .ref a2), (3, .ref a3), (4, .int x4)]) hx hb dL_law_1544 hl (by decide) rfl (fun ls hl => ?_)
          refine lv_aload_n hx hb dL_law_1546 rfl (lv_at hl 3 rfl) ?_
          refine lv_aload_n hx hb dL_law_1547 rfl (lv_at hl 1 rfl) ?_
          refine lv_iload hx hb dL_law_1548 (lv_at hl 5 rfl) ?_
          refine lv_iconst (v := 1) hx hb dL_law_1550 (by decide) ?_
          refine lv_iadd hx hb dL_law_1551 ?_
          refine mm_iald13 C S h dL_law_1552 (fun v425 h => ?_)
          refine lv_aload_n hx hb dL_law_1553 rfl (lv_at hl 1 rfl) ?_
          refine lv_iload hx hb dL_law_1554 (lv_at hl 5 rfl) ?_
          refine lv_iconst (v := 2) hx hb dL_law_1556 (by decide) ?_
          refine lv_iadd hx hb dL_law_1557 ?_
          refine mm_iald13 C S h dL_law_1558 (fun v426 h => ?_)
          refine lv_aload_n hx hb dL_law_1559 rfl (lv_at hl 1 rfl) ?_
          refine lv_iload hx hb dL_law_1560 (lv_at hl 5 rfl) ?_
          refine lv_iconst (v := 3) hx hb dL_law_1562 (by decide) ?_
          refine lv_iadd hx hb dL_law_1563 ?_
          refine mm_iald13 C S h dL_law_1564 (fun v427 h => ?_)
          obtain ⟨hI, h⟩ := h
          obtain ⟨N436, N437, eM9, hdj, hN9⟩ := h
          subst eM9
          have h := hN9
          refine mm_V (As := [.int v425, .int v426, .int v427]) (rest := []) C S hl.1 (mMet.frame hdj (wk_X4_curve hst0 h)) (T := TX4) rfl hI (lw_V q2033 q2034 q2035 q58 q2036) rfl pd_X4_curve ⟨Nat.le_of_ble_eq_true rfl, Nat.le_of_ble_eq_true rfl⟩ rfl rfl (Nat.le_of_ble_eq_true rfl) dL_law_1565 rfl rfl hk (Nat.zero_add _) (fun v9 M428 H locs hP S hk => ?_) (fun E q ce M9 H9 locs9 hX => by obtain ⟨_, h9, _⟩ := hX; exact h9.elim)
          obtain ⟨_, ⟨v429, rfl, h⟩, eM8, hd9⟩ := hP
          have h := h hd9
          rw [← eM8] at h
          refine W.eq (g2 := F0 m 1568 ls [.int v429]) rfl ?_
          refine lv_istore (lv' := [(6, .int v429), (5, .int v424), (0, .ref a0), (1, .ref a1), (2, .ref a2), (3, .ref a3), (4, .int x4)]) hx hb dL_law_1568 hl (by decide) rfl (fun ls hl => ?_)
          refine lv_aload_n hx hb dL_law_1570 rfl (lv_at hl 4 rfl) ?_
          obtain ⟨hI, h⟩ := h
          obtain ⟨N433, N434, eM9, hdj, hN9⟩ := h
          subst eM9
          have h := hN9
          refine mm_V (As := []) (rest := []) C S hl.1 (mMet.frame hdj (wk_X4_thrown hst0 h)) (T := TX4) rfl hI (lw_V q1819 q1820 q1821 q58 q1822) rfl pd_X4_thrown ⟨Nat.le_of_ble_eq_true rfl, Nat.le_of_ble_eq_true rfl⟩ rfl rfl (Nat.le_of_ble_eq_true rfl) dL_law_1571 rfl rfl hk (Nat.zero_add _) (fun v9 M430 H locs hP S hk => ?_) (fun E q ce M9 H9 locs9 hX => by obtain ⟨_, h9, _⟩ := hX; exact h9.elim)
          obtain ⟨_, ⟨v431, rfl, h⟩, eM8, hd9⟩ := hP
          have h := h hd9
          rw [← eM8] at h
          refine W.eq (g2 := F0 m 1574 ls [.int v431]) rfl ?_
          refine lv_iload hx hb dL_law_1574 (lv_at hl 1 rfl) ?_
          refine lv_icmp_eq (tgt := 1581) hx hb dL_law_1576 (by decide) (fun c9 => ?_) (fun c9 => ?_)
          · have h := h.1 c9
            refine lv_iload hx hb dL_law_1581 (lv_at hl 1 rfl) ?_
            refine lv_if_ne (tgt := 1598) hx hb dL_law_1583 (by decide) (fun c9 => ?_) (fun c9 => ?_)
            · have h := h.1 c9
              exact j1598 _ _ _ _ _ _ _ _ _ _ _ hk S (lv_sub hl [2, 3, 4, 5, 6] rfl) h
            · have h := h.2 c9
              refine lv_aload_n hx hb dL_law_1586 rfl (lv_at hl 5 rfl) ?_
              refine lv_iconst (v := 0) hx hb dL_law_1587 (by decide) ?_
              refine mm_lald C S h dL_law_1588 (fun v432 h => ?_)
              refine lv_iload hx hb dL_law_1589 (lv_at hl 0 rfl) ?_
              refine lv_i2l hx hb dL_law_1591 rfl ?_
              refine W.lcmp hx hb dL_law_1592 ?_
              refine lv_if_eq (tgt := 1598) hx hb dL_law_1593 (by decide) (fun c9 => ?_) (fun c9 => ?_)
              · have h := h.1 c9
                exact j1598 _ _ _ _ _ _ _ _ _ _ _ hk S (lv_sub hl [2, 3, 4, 5, 6] rfl) h
              · have h := h.2 c9
                refine lv_iconst (v := 0) hx hb dL_law_1596 (by decide) ?_
                exact mm_zret C S hr (Nat.le_trans (Nat.le_add_right _ _) hk) dL_law_1597 h
          · have h := h.2 c9
            refine lv_iconst (v := 0) hx hb dL_law_1579 (by decide) ?_
            exact mm_zret C S hr (Nat.le_trans (Nat.le_add_right _ _) hk) dL_law_1580 h
        by_cases c22 : (v23 &&& 31) = 22
        · have h := h.2.2.2.2.2.2.2.2.2.2.2.2.2.2.2.2.2.2.2.2.2.2.1 c22
          rw [c22]
          refine lv_tableIn (tgt := 1601) hx hb dL_law_40 (by decide) (by decide) rfl (by decide) ?_
          refine lv_aload_n hx hb dL_law_1601 rfl (lv_at hl 1 rfl) ?_
          refine lv_aload_n hx hb dL_law_1602 rfl (lv_at hl 0 rfl) ?_
          refine lv_iload hx hb dL_law_1603 (lv_at hl 4 rfl) ?_
          refine lv_iconst (v := 1) hx hb dL_law_1605 (by decide) ?_
          refine lv_iadd hx hb dL_law_1606 ?_
          refine mm_iald13 C S h dL_law_1607 (fun v442 h => ?_)
          refine lv_aload_n hx hb dL_law_1608 rfl (lv_at hl 0 rfl) ?_
          refine lv_iload hx hb dL_law_1609 (lv_at hl 4 rfl) ?_
          refine lv_iconst (v := 2) hx hb dL_law_1611 (by decide) ?_
          refine lv_iadd hx hb dL_law_1612 ?_
          refine mm_iald13 C S h dL_law_1613 (fun v443 h => ?_)
          refine lv_aload_n hx hb dL_law_1614 rfl (lv_at hl 3 rfl) ?_
          obtain ⟨b445, r446, hb9, h⟩ := h
          obtain ⟨N461, N462, eM9, hdj, hN9⟩ := h
          subst eM9
          have h := hN9
          refine mm_SX (As := [.ref a1, .int v442, .int v443, .ref a3]) (rest := []) C S hl.1 (mMet.frame hdj (wk_X0_looks hst0 h)) (lw_SW q1624 q1625 q47 q1626) pd_X0_looks ⟨Nat.le_of_ble_eq_true rfl, Nat.le_of_ble_eq_true rfl⟩ rfl rfl (Nat.le_of_ble_eq_true rfl) dL_law_1615 rfl rfl hk hb9 (fun v9 M444 H locs hP S hk => ?_) (fun E q ce M9 H9 locs9 hX => by obtain ⟨_, h9, _⟩ := hX; exact h9.elim)
          obtain ⟨_, ⟨v447, rfl, h⟩, eM8, hd9⟩ := hP
          have h := h hd9
          rw [← eM8] at h
          refine W.eq (g2 := F0 m 1618 ls [.int v447]) rfl ?_
          refine lv_istore (lv' := [(5, .int v447), (0, .ref a0), (1, .ref a1), (2, .ref a2), (3, .ref a3), (4, .int x4)]) hx hb dL_law_1618 hl (by decide) rfl (fun ls hl => ?_)
          refine lv_aload_n hx hb dL_law_1620 rfl (lv_at hl 3 rfl) ?_
          refine lv_aload_n hx hb dL_law_1621 rfl (lv_at hl 1 rfl) ?_
          refine lv_iload hx hb dL_law_1622 (lv_at hl 5 rfl) ?_
          refine lv_iconst (v := 1) hx hb dL_law_1624 (by decide) ?_
          refine lv_iadd hx hb dL_law_1625 ?_
          refine mm_iald13 C S h dL_law_1626 (fun v448 h => ?_)
          refine lv_aload_n hx hb dL_law_1627 rfl (lv_at hl 1 rfl) ?_
          refine lv_iload hx hb dL_law_1628 (lv_at hl 5 rfl) ?_
          refine lv_iconst (v := 2) hx hb dL_law_1630 (by decide) ?_
          refine lv_iadd hx hb dL_law_1631 ?_
          refine mm_iald13 C S h dL_law_1632 (fun v449 h => ?_)
          obtain ⟨hI, h⟩ := h
          obtain ⟨N458, N459, eM9, hdj, hN9⟩ := h
          subst eM9
          have h := hN9
          refine mm_V (As := [.int v448, .int v449]) (rest := []) C S hl.1 (mMet.frame hdj (wk_X4_looks hst0 h)) (T := TX4) rfl hI (lw_V q2037 q2038 q2039 q58 q2040) rfl pd_X4_looks ⟨Nat.le_of_ble_eq_true rfl, Nat.le_of_ble_eq_true rfl⟩ rfl rfl (Nat.le_of_ble_eq_true rfl) dL_law_1633 rfl rfl hk (Nat.zero_add _) (fun v9 M450 H locs hP S hk => ?_) (fun E q ce M9 H9 locs9 hX => by obtain ⟨_, h9, _⟩ := hX; exact h9.elim)
          obtain ⟨_, ⟨v451, rfl, h⟩, eM8, hd9⟩ := hP
          have h := h hd9
          rw [← eM8] at h
          refine W.eq (g2 := F0 m 1636 ls [.int v451]) rfl ?_
          refine lv_istore (lv' := [(6, .int v451), (5, .int v447), (0, .ref a0), (1, .ref a1), (2, .ref a2), (3, .ref a3), (4, .int x4)]) hx hb dL_law_1636 hl (by decide) rfl (fun ls hl => ?_)
          refine lv_aload_n hx hb dL_law_1638 rfl (lv_at hl 4 rfl) ?_
          obtain ⟨hI, h⟩ := h
          obtain ⟨N455, N456, eM9, hdj, hN9⟩ := h
          subst eM9
          have h := hN9
          refine mm_V (As := []) (rest := []) C S hl.1 (mMet.frame hdj (wk_X4_thrown hst0 h)) (T := TX4) rfl hI (lw_V q1819 q1820 q1821 q58 q1822) rfl pd_X4_thrown ⟨Nat.le_of_ble_eq_true rfl, Nat.le_of_ble_eq_true rfl⟩ rfl rfl (Nat.le_of_ble_eq_true rfl) dL_law_1639 rfl rfl hk (Nat.zero_add _) (fun v9 M452 H locs hP S hk => ?_) (fun E q ce M9 H9 locs9 hX => by obtain ⟨_, h9, _⟩ := hX; exact h9.elim)
          obtain ⟨_, ⟨v453, rfl, h⟩, eM8, hd9⟩ := hP
          have h := h hd9
          rw [← eM8] at h
          refine W.eq (g2 := F0 m 1642 ls [.int v453]) rfl ?_
          refine lv_iload hx hb dL_law_1642 (lv_at hl 1 rfl) ?_
          refine lv_icmp_eq (tgt := 1649) hx hb dL_law_1644 (by decide) (fun c9 => ?_) (fun c9 => ?_)
          · have h := h.1 c9
            refine lv_iload hx hb dL_law_1649 (lv_at hl 1 rfl) ?_
            refine lv_if_ne (tgt := 1666) hx hb dL_law_1651 (by decide) (fun c9 => ?_) (fun c9 => ?_)
            · have h := h.1 c9
              exact j1666 _ _ _ _ _ _ _ _ _ _ _ hk S (lv_sub hl [2, 3, 4, 5, 6] rfl) h
            · have h := h.2 c9
              refine lv_aload_n hx hb dL_law_1654 rfl (lv_at hl 5 rfl) ?_
              refine lv_iconst (v := 0) hx hb dL_law_1655 (by decide) ?_
              refine mm_lald C S h dL_law_1656 (fun v454 h => ?_)
              refine lv_iload hx hb dL_law_1657 (lv_at hl 0 rfl) ?_
              refine lv_i2l hx hb dL_law_1659 rfl ?_
              refine W.lcmp hx hb dL_law_1660 ?_
              refine lv_if_eq (tgt := 1666) hx hb dL_law_1661 (by decide) (fun c9 => ?_) (fun c9 => ?_)
              · have h := h.1 c9
                exact j1666 _ _ _ _ _ _ _ _ _ _ _ hk S (lv_sub hl [2, 3, 4, 5, 6] rfl) h
              · have h := h.2 c9
                refine lv_iconst (v := 0) hx hb dL_law_1664 (by decide) ?_
                exact mm_zret C S hr (Nat.le_trans (Nat.le_add_right _ _) hk) dL_law_1665 h
          · have h := h.2 c9
            refine lv_iconst (v := 0) hx hb dL_law_1647 (by decide) ?_
            exact mm_zret C S hr (Nat.le_trans (Nat.le_add_right _ _) hk) dL_law_1648 h
        by_cases c23 : (v23 &&& 31) = 23
        · have h := h.2.2.2.2.2.2.2.2.2.2.2.2.2.2.2.2.2.2.2.2.2.2.2.1 c23
          rw [c23]
          refine lv_tableIn (tgt := 1669) hx hb dL_law_40 (by decide) (by decide) rfl (by decide) ?_
          refine lv_aload_n hx hb dL_law_1669 rfl (lv_at hl 1 rfl) ?_
          refine lv_aload_n hx hb dL_law_1670 rfl (lv_at hl 0 rfl) ?_
          refine lv_iload hx hb dL_law_1671 (lv_at hl 4 rfl) ?_
          refine lv_iconst (v := 1) hx hb dL_law_1673 (by decide) ?_
          refine lv_iadd hx hb dL_law_1674 ?_
          refine mm_iald13 C S h dL_law_1675 (fun v464 h => ?_)
          refine lv_aload_n hx hb dL_law_1676 rfl (lv_at hl 3 rfl) ?_
          obtain ⟨b466, r467, hb9, h⟩ := h
          obtain ⟨N481, N482, eM9, hdj, hN9⟩ := h
          subst eM9
          have h := hN9
          refine mm_SX (As := [.ref a1, .int v464, .ref a3]) (rest := []) C S hl.1 (mMet.frame hdj (wk_X0_share hst0 h)) (lw_SW q1631 q1632 q47 q1633) pd_X0_share ⟨Nat.le_of_ble_eq_true rfl, Nat.le_of_ble_eq_true rfl⟩ rfl rfl (Nat.le_of_ble_eq_true rfl) dL_law_1677 rfl rfl hk hb9 (fun v9 M465 H locs hP S hk => ?_) (fun E q ce M9 H9 locs9 hX => by obtain ⟨_, h9, _⟩ := hX; exact h9.elim)
          obtain ⟨_, ⟨v468, rfl, h⟩, eM8, hd9⟩ := hP
          have h := h hd9
          rw [← eM8] at h
          refine W.eq (g2 := F0 m 1680 ls [.int v468]) rfl ?_
          refine lv_istore (lv' := [(5, .int v468), (0, .ref a0), (1, .ref a1), (2, .ref a2), (3, .ref a3), (4, .int x4)]) hx hb dL_law_1680 hl (by decide) rfl (fun ls hl => ?_)
          refine lv_aload_n hx hb dL_law_1682 rfl (lv_at hl 3 rfl) ?_
          refine lv_aload_n hx hb dL_law_1683 rfl (lv_at hl 1 rfl) ?_
          refine lv_iload hx hb dL_law_1684 (lv_at hl 5 rfl) ?_
          refine lv_iconst (v := 1) hx hb dL_law_1686 (by decide) ?_
          refine lv_iadd hx hb dL_law_1687 ?_
          refine mm_iald13 C S h dL_law_1688 (fun v469 h => ?_)
          obtain ⟨hI, h⟩ := h
          obtain ⟨N478, N479, eM9, hdj, hN9⟩ := h
          subst eM9
          have h := hN9
          refine mm_V (As := [.int v469]) (rest := []) C S hl.1 (mMet.frame hdj (wk_X4_share hst0 h)) (T := TX4) rfl hI (lw_V q2041 q2042 q2043 q58 q2044) rfl pd_X4_share ⟨Nat.le_of_ble_eq_true rfl, Nat.le_of_ble_eq_true rfl⟩ rfl rfl (Nat.le_of_ble_eq_true rfl) dL_law_1689 rfl rfl hk (Nat.zero_add _) (fun v9 M470 H locs hP S hk => ?_) (fun E q ce M9 H9 locs9 hX => by obtain ⟨_, h9, _⟩ := hX; exact h9.elim)
          obtain ⟨_, ⟨v471, rfl, h⟩, eM8, hd9⟩ := hP
          have h := h hd9
          rw [← eM8] at h
          refine W.eq (g2 := F0 m 1692 ls [.int v471]) rfl ?_
          refine lv_istore (lv' := [(6, .int v471), (5, .int v468), (0, .ref a0), (1, .ref a1), (2, .ref a2), (3, .ref a3), (4, .int x4)]) hx hb dL_law_1692 hl (by decide) rfl (fun ls hl => ?_)
          refine lv_aload_n hx hb dL_law_1694 rfl (lv_at hl 4 rfl) ?_
          obtain ⟨hI, h⟩ := h
          obtain ⟨N475, N476, eM9, hdj, hN9⟩ := h
          subst eM9
          have h := hN9
          refine mm_V (As := []) (rest := []) C S hl.1 (mMet.frame hdj (wk_X4_thrown hst0 h)) (T := TX4) rfl hI (lw_V q1819 q1820 q1821 q58 q1822) rfl pd_X4_thrown ⟨Nat.le_of_ble_eq_true rfl, Nat.le_of_ble_eq_true rfl⟩ rfl rfl (Nat.le_of_ble_eq_true rfl) dL_law_1695 rfl rfl hk (Nat.zero_add _) (fun v9 M472 H locs hP S hk => ?_) (fun E q ce M9 H9 locs9 hX => by obtain ⟨_, h9, _⟩ := hX; exact h9.elim)
          obtain ⟨_, ⟨v473, rfl, h⟩, eM8, hd9⟩ := hP
          have h := h hd9
          rw [← eM8] at h
          refine W.eq (g2 := F0 m 1698 ls [.int v473]) rfl ?_
          refine lv_iload hx hb dL_law_1698 (lv_at hl 1 rfl) ?_
          refine lv_icmp_eq (tgt := 1705) hx hb dL_law_1700 (by decide) (fun c9 => ?_) (fun c9 => ?_)
          · have h := h.1 c9
            refine lv_iload hx hb dL_law_1705 (lv_at hl 1 rfl) ?_
            refine lv_if_ne (tgt := 1722) hx hb dL_law_1707 (by decide) (fun c9 => ?_) (fun c9 => ?_)
            · have h := h.1 c9
              exact j1722 _ _ _ _ _ _ _ _ _ _ _ hk S (lv_sub hl [2, 3, 4, 5, 6] rfl) h
            · have h := h.2 c9
              refine lv_aload_n hx hb dL_law_1710 rfl (lv_at hl 5 rfl) ?_
              refine lv_iconst (v := 0) hx hb dL_law_1711 (by decide) ?_
              refine mm_lald C S h dL_law_1712 (fun v474 h => ?_)
              refine lv_iload hx hb dL_law_1713 (lv_at hl 0 rfl) ?_
              refine lv_i2l hx hb dL_law_1715 rfl ?_
              refine W.lcmp hx hb dL_law_1716 ?_
              refine lv_if_eq (tgt := 1722) hx hb dL_law_1717 (by decide) (fun c9 => ?_) (fun c9 => ?_)
              · have h := h.1 c9
                exact j1722 _ _ _ _ _ _ _ _ _ _ _ hk S (lv_sub hl [2, 3, 4, 5, 6] rfl) h
              · have h := h.2 c9
                refine lv_iconst (v := 0) hx hb dL_law_1720 (by decide) ?_
                exact mm_zret C S hr (Nat.le_trans (Nat.le_add_right _ _) hk) dL_law_1721 h
          · have h := h.2 c9
            refine lv_iconst (v := 0) hx hb dL_law_1703 (by decide) ?_
            exact mm_zret C S hr (Nat.le_trans (Nat.le_add_right _ _) hk) dL_law_1704 h
        by_cases c24 : (v23 &&& 31) = 24
        · have h := h.2.2.2.2.2.2.2.2.2.2.2.2.2.2.2.2.2.2.2.2.2.2.2.2.1 c24
          rw [c24]
          refine lv_tableIn (tgt := 1725) hx hb dL_law_40 (by decide) (by decide) rfl (by decide) ?_
          refine lv_aload_n hx hb dL_law_1725 rfl (lv_at hl 1 rfl) ?_
          refine lv_aload_n hx hb dL_law_1726 rfl (lv_at hl 0 rfl) ?_
          refine lv_iload hx hb dL_law_1727 (lv_at hl 4 rfl) ?_
          refine lv_iconst (v := 1) hx hb dL_law_1729 (by decide) ?_
          refine lv_iadd hx hb dL_law_1730 ?_
          refine mm_iald13 C S h dL_law_1731 (fun v484 h => ?_)
          refine lv_aload_n hx hb dL_law_1732 rfl (lv_at hl 0 rfl) ?_
          refine lv_iload hx hb dL_law_1733 (lv_at hl 4 rfl) ?_
          refine lv_iconst (v := 2) hx hb dL_law_1735 (by decide) ?_
          refine lv_iadd hx hb dL_law_1736 ?_
          refine mm_iald13 C S h dL_law_1737 (fun v485 h => ?_)
          refine lv_aload_n hx hb dL_law_1738 rfl (lv_at hl 0 rfl) ?_
          refine lv_iload hx hb dL_law_1739 (lv_at hl 4 rfl) ?_
          refine lv_iconst (v := 3) hx hb dL_law_1741 (by decide) ?_
          refine lv_iadd hx hb dL_law_1742 ?_
          refine mm_iald13 C S h dL_law_1743 (fun v486 h => ?_)
          refine lv_aload_n hx hb dL_law_1744 rfl (lv_at hl 0 rfl) ?_
          refine lv_iload hx hb dL_law_1745 (lv_at hl 4 rfl) ?_
          refine lv_iconst (v := 4) hx hb dL_law_1747 (by decide) ?_
          refine lv_iadd hx hb dL_law_1748 ?_
          refine mm_iald13 C S h dL_law_1749 (fun v487 h => ?_)
          refine lv_if_eq (tgt := 1757) hx hb dL_law_1750 (by decide) (fun c9 => ?_) (fun c9 => ?_)
          · have h := h.1 c9
            refine lv_iconst (v := 0) hx hb dL_law_1757 (by decide) ?_
            exact j1758 _ _ _ _ _ _ _ _ _ _ _ _ _ _ _ _ hk S hl h
          · have h := h.2 c9
            refine lv_iconst (v := 1) hx hb dL_law_1753 (by decide) ?_
            refine lv_goto (tgt := 1758) hx hb dL_law_1754 (by decide) ?_
            exact j1758 _ _ _ _ _ _ _ _ _ _ _ _ _ _ _ _ hk S hl h
        by_cases c25 : (v23 &&& 31) = 25
        · have h := h.2.2.2.2.2.2.2.2.2.2.2.2.2.2.2.2.2.2.2.2.2.2.2.2.2.1 c25
          rw [c25]
          refine lv_tableIn (tgt := 1833) hx hb dL_law_40 (by decide) (by decide) rfl (by decide) ?_
          refine lv_aload_n hx hb dL_law_1833 rfl (lv_at hl 1 rfl) ?_
          refine lv_aload_n hx hb dL_law_1834 rfl (lv_at hl 0 rfl) ?_
          refine lv_iload hx hb dL_law_1835 (lv_at hl 4 rfl) ?_
          refine lv_iconst (v := 1) hx hb dL_law_1837 (by decide) ?_
          refine lv_iadd hx hb dL_law_1838 ?_
          refine mm_iald13 C S h dL_law_1839 (fun v488 h => ?_)
          refine lv_aload_n hx hb dL_law_1840 rfl (lv_at hl 0 rfl) ?_
          refine lv_iload hx hb dL_law_1841 (lv_at hl 4 rfl) ?_
          refine lv_iconst (v := 2) hx hb dL_law_1843 (by decide) ?_
          refine lv_iadd hx hb dL_law_1844 ?_
          refine mm_iald13 C S h dL_law_1845 (fun v489 h => ?_)
          refine lv_if_eq (tgt := 1853) hx hb dL_law_1846 (by decide) (fun c9 => ?_) (fun c9 => ?_)
          · have h := h.1 c9
            refine lv_iconst (v := 0) hx hb dL_law_1853 (by decide) ?_
            exact j1854 _ _ _ _ _ _ _ _ _ _ _ _ _ _ hk S hl h
          · have h := h.2 c9
            refine lv_iconst (v := 1) hx hb dL_law_1849 (by decide) ?_
            refine lv_goto (tgt := 1854) hx hb dL_law_1850 (by decide) ?_
            exact j1854 _ _ _ _ _ _ _ _ _ _ _ _ _ _ hk S hl h
        by_cases c26 : (v23 &&& 31) = 26
        · have h := h.2.2.2.2.2.2.2.2.2.2.2.2.2.2.2.2.2.2.2.2.2.2.2.2.2.2.1 c26
          rw [c26]
          refine lv_tableIn (tgt := 1916) hx hb dL_law_40 (by decide) (by decide) rfl (by decide) ?_
          refine lv_aload_n hx hb dL_law_1916 rfl (lv_at hl 1 rfl) ?_
          refine lv_aload_n hx hb dL_law_1917 rfl (lv_at hl 3 rfl) ?_
          obtain ⟨b491, r492, hb9, h⟩ := h
          obtain ⟨N505, N506, eM9, hdj, hN9⟩ := h
          subst eM9
          have h := hN9
          refine mm_SX (As := [.ref a1, .ref a3]) (rest := []) C S hl.1 (mMet.frame hdj (wk_X0_nextYear hst0 h)) (lw_SW q1652 q1653 q47 q1654) pd_X0_nextYear ⟨Nat.le_of_ble_eq_true rfl, Nat.le_of_ble_eq_true rfl⟩ rfl rfl (Nat.le_of_ble_eq_true rfl) dL_law_1918 rfl rfl hk hb9 (fun v9 M490 H locs hP S hk => ?_) (fun E q ce M9 H9 locs9 hX => by obtain ⟨_, h9, _⟩ := hX; exact h9.elim)
          obtain ⟨_, ⟨v493, rfl, h⟩, eM8, hd9⟩ := hP
          have h := h hd9
          rw [← eM8] at h
          refine W.eq (g2 := F0 m 1921 ls [.int v493]) rfl ?_
          refine lv_istore (lv' := [(5, .int v493), (0, .ref a0), (1, .ref a1), (2, .ref a2), (3, .ref a3), (4, .int x4)]) hx hb dL_law_1921 hl (by decide) rfl (fun ls hl => ?_)
          refine lv_aload_n hx hb dL_law_1923 rfl (lv_at hl 3 rfl) ?_
          obtain ⟨hI, h⟩ := h
          obtain ⟨N502, N503, eM9, hdj, hN9⟩ := h
          subst eM9
          have h := hN9
          refine mm_V (As := []) (rest := []) C S hl.1 (mMet.frame hdj (wk_X4_nextYear hst0 h)) (T := TX4) rfl hI (lw_V q2053 q2054 q2055 q58 q2056) rfl pd_X4_nextYear ⟨Nat.le_of_ble_eq_true rfl, Nat.le_of_ble_eq_true rfl⟩ rfl rfl (Nat.le_of_ble_eq_true rfl) dL_law_1924 rfl rfl hk (Nat.zero_add _) (fun v9 M494 H locs hP S hk => ?_) (fun E q ce M9 H9 locs9 hX => by obtain ⟨_, h9, _⟩ := hX; exact h9.elim)
          obtain ⟨_, ⟨v495, rfl, h⟩, eM8, hd9⟩ := hP
          have h := h hd9
          rw [← eM8] at h
          refine W.eq (g2 := F0 m 1927 ls [.int v495]) rfl ?_
          refine lv_istore (lv' := [(6, .int v495), (5, .int v493), (0, .ref a0), (1, .ref a1), (2, .ref a2), (3, .ref a3), (4, .int x4)]) hx hb dL_law_1927 hl (by decide) rfl (fun ls hl => ?_)
          refine lv_aload_n hx hb dL_law_1929 rfl (lv_at hl 4 rfl) ?_
          obtain ⟨hI, h⟩ := h
          obtain ⟨N499, N500, eM9, hdj, hN9⟩ := h
          subst eM9
          have h := hN9
          refine mm_V (As := []) (rest := []) C S hl.1 (mMet.frame hdj (wk_X4_thrown hst0 h)) (T := TX4) rfl hI (lw_V q1819 q1820 q1821 q58 q1822) rfl pd_X4_thrown ⟨Nat.le_of_ble_eq_true rfl, Nat.le_of_ble_eq_true rfl⟩ rfl rfl (Nat.le_of_ble_eq_true rfl) dL_law_1930 rfl rfl hk (Nat.zero_add _) (fun v9 M496 H locs hP S hk => ?_) (fun E q ce M9 H9 locs9 hX => by obtain ⟨_, h9, _⟩ := hX; exact h9.elim)
          obtain ⟨_, ⟨v497, rfl, h⟩, eM8, hd9⟩ := hP
          have h := h hd9
          rw [← eM8] at h
          refine W.eq (g2 := F0 m 1933 ls [.int v497]) rfl ?_
          refine lv_iload hx hb dL_law_1933 (lv_at hl 1 rfl) ?_
          refine lv_icmp_eq (tgt := 1940) hx hb dL_law_1935 (by decide) (fun c9 => ?_) (fun c9 => ?_)
          · have h := h.1 c9
            refine lv_iload hx hb dL_law_1940 (lv_at hl 1 rfl) ?_
            refine lv_if_ne (tgt := 1957) hx hb dL_law_1942 (by decide) (fun c9 => ?_) (fun c9 => ?_)
            · have h := h.1 c9
              exact j1957 _ _ _ _ _ _ _ _ _ _ _ hk S (lv_sub hl [2, 3, 4, 5, 6] rfl) h
            · have h := h.2 c9
              refine lv_aload_n hx hb dL_law_1945 rfl (lv_at hl 5 rfl) ?_
              refine lv_iconst (v := 0) hx hb dL_law_1946 (by decide) ?_
              refine mm_lald C S h dL_law_1947 (fun v498 h => ?_)
              refine lv_iload hx hb dL_law_1948 (lv_at hl 0 rfl) ?_
              refine lv_i2l hx hb dL_law_1950 rfl ?_
              refine W.lcmp hx hb dL_law_1951 ?_
              refine lv_if_eq (tgt := 1957) hx hb dL_law_1952 (by decide) (fun c9 => ?_) (fun c9 => ?_)
              · have h := h.1 c9
                exact j1957 _ _ _ _ _ _ _ _ _ _ _ hk S (lv_sub hl [2, 3, 4, 5, 6] rfl) h
              · have h := h.2 c9
                refine lv_iconst (v := 0) hx hb dL_law_1955 (by decide) ?_
                exact mm_zret C S hr (Nat.le_trans (Nat.le_add_right _ _) hk) dL_law_1956 h
          · have h := h.2 c9
            refine lv_iconst (v := 0) hx hb dL_law_1938 (by decide) ?_
            exact mm_zret C S hr (Nat.le_trans (Nat.le_add_right _ _) hk) dL_law_1939 h
        by_cases c27 : (v23 &&& 31) = 27
        · have h := h.2.2.2.2.2.2.2.2.2.2.2.2.2.2.2.2.2.2.2.2.2.2.2.2.2.2.2.1 c27
          rw [c27]
          refine lv_tableIn (tgt := 1960) hx hb dL_law_40 (by decide) (by decide) rfl (by decide) ?_
          refine lv_aload_n hx hb dL_law_1960 rfl (lv_at hl 1 rfl) ?_
          obtain ⟨hI, h⟩ := h
          obtain ⟨b509, r510, hb9, h⟩ := h
          obtain ⟨N517, N518, eM9, hdj, hN9⟩ := h
          subst eM9
          have h := hN9
          refine mm_V (As := []) (rest := []) C S hl.1 (mMet.frame hdj (wk_X1_errors hst0 h)) (T := TX1) rfl hI (lw_V q345 q346 q347 q48 q348) rfl pd_X1_errors ⟨Nat.le_of_ble_eq_true rfl, Nat.le_of_ble_eq_true rfl⟩ rfl rfl (Nat.le_of_ble_eq_true rfl) dL_law_1961 rfl rfl hk hb9 (fun v9 M508 H locs hP S hk => ?_) (fun E q ce M9 H9 locs9 hX => by obtain ⟨_, h9, _⟩ := hX; exact h9.elim)
          obtain ⟨_, ⟨v511, rfl, h⟩, eM8, hd9⟩ := hP
          have h := h hd9
          rw [← eM8] at h
          refine W.eq (g2 := F0 m 1964 ls [.int v511]) rfl ?_
          refine lv_aload_n hx hb dL_law_1964 rfl (lv_at hl 2 rfl) ?_
          obtain ⟨hI, h⟩ := h
          obtain ⟨N514, N515, eM9, hdj, hN9⟩ := h
          subst eM9
          have h := hN9
          refine mm_V (As := []) (rest := [.int v511]) C S hl.1 (mMet.frame hdj (wk_X4_errors hst0 h)) (T := TX4) rfl hI (lw_V q2057 q2058 q2059 q58 q2060) rfl pd_X4_errors ⟨Nat.le_of_ble_eq_true rfl, Nat.le_of_ble_eq_true rfl⟩ rfl rfl (Nat.le_of_ble_eq_true rfl) dL_law_1965 rfl rfl hk (Nat.zero_add _) (fun v9 M512 H locs hP S hk => ?_) (fun E q ce M9 H9 locs9 hX => by obtain ⟨_, h9, _⟩ := hX; exact h9.elim)
          obtain ⟨_, ⟨v513, rfl, h⟩, eM8, hd9⟩ := hP
          have h := h hd9
          rw [← eM8] at h
          refine W.eq (g2 := F0 m 1968 ls [.int v513, .int v511]) rfl ?_
          refine lv_icmp_eq (tgt := 2057) hx hb dL_law_1968 (by decide) (fun c9 => ?_) (fun c9 => ?_)
          · have h := h.1 c9
            exact j2057 _ _ _ _ _ _ _ _ _ _ _ hk S hl h
          · have h := h.2 c9
            refine lv_iconst (v := 0) hx hb dL_law_1971 (by decide) ?_
            exact mm_zret C S hr (Nat.le_trans (Nat.le_add_right _ _) hk) dL_law_1972 h
        by_cases c28 : (v23 &&& 31) = 28
        · have h := h.2.2.2.2.2.2.2.2.2.2.2.2.2.2.2.2.2.2.2.2.2.2.2.2.2.2.2.2.1 c28
          rw [c28]
          refine lv_tableIn (tgt := 1973) hx hb dL_law_40 (by decide) (by decide) rfl (by decide) ?_
          refine lv_aload_n hx hb dL_law_1973 rfl (lv_at hl 1 rfl) ?_
          obtain ⟨hI, h⟩ := h
          obtain ⟨N527, N528, eM9, hdj, hN9⟩ := h
          subst eM9
          have h := hN9
          refine mm_V (As := []) (rest := []) C S hl.1 (mMet.frame hdj (wk_X1_meanDoubt hst0 h)) (T := TX1) rfl hI (lw_V q410 q411 q412 q48 q413) rfl pd_X1_meanDoubt ⟨Nat.le_of_ble_eq_true rfl, Nat.le_of_ble_eq_true rfl⟩ rfl rfl (Nat.le_of_ble_eq_true rfl) dL_law_1974 rfl rfl hk (Nat.zero_add _) (fun v9 M520 H locs hP S hk => ?_) (fun E q ce M9 H9 locs9 hX => by obtain ⟨_, h9, _⟩ := hX; exact h9.elim)
          obtain ⟨_, ⟨g521, rfl, h⟩, eM8, hd9⟩ := hP
          have h := h hd9
          rw [← eM8] at h
          refine W.eq (g2 := F0 m 1977 ls [.double g521]) rfl ?_
          refine lv_dstore (lv' := [(5, .double g521), (0, .ref a0), (1, .ref a1), (2, .ref a2), (3, .ref a3), (4, .int x4)]) hx hb dL_law_1977 hl (by decide) rfl (fun ls hl => ?_)
          refine lv_aload_n hx hb dL_law_1979 rfl (lv_at hl 3 rfl) ?_
          obtain ⟨hI, h⟩ := h
          obtain ⟨N524, N525, eM9, hdj, hN9⟩ := h
          subst eM9
          have h := hN9
          refine mm_V (As := []) (rest := []) C S hl.1 (mMet.frame hdj (wk_X4_meanDoubt hst0 h)) (T := TX4) rfl hI (lw_V q2061 q2062 q2063 q58 q2064) rfl pd_X4_meanDoubt ⟨Nat.le_of_ble_eq_true rfl, Nat.le_of_ble_eq_true rfl⟩ rfl rfl (Nat.le_of_ble_eq_true rfl) dL_law_1980 rfl rfl hk (Nat.zero_add _) (fun v9 M522 H locs hP S hk => ?_) (fun E q ce M9 H9 locs9 hX => by obtain ⟨_, h9, _⟩ := hX; exact h9.elim)
          obtain ⟨_, ⟨g523, rfl, h⟩, eM8, hd9⟩ := hP
          have h := h hd9
          rw [← eM8] at h
          refine W.eq (g2 := F0 m 1983 ls [.double g523]) rfl ?_
          refine lv_dstore (lv' := [(7, .double g523), (5, .double g521), (0, .ref a0), (1, .ref a1), (2, .ref a2), (3, .ref a3), (4, .int x4)]) hx hb dL_law_1983 hl (by decide) rfl (fun ls hl => ?_)
          refine lv_dload hx hb dL_law_1985 (lv_at hl 1 rfl) ?_
          refine lv_dload hx hb dL_law_1987 (lv_at hl 0 rfl) ?_
          refine lv_dcmp hx hb dL_law_1989 ?_
          refine lv_if_eq (tgt := 2011) hx hb dL_law_1990 (by decide) (fun c9 => ?_) (fun c9 => ?_)
          · have h := h.1 c9
            exact j2011 _ _ _ _ _ _ _ _ _ _ _ hk S (lv_sub hl [2, 3, 4, 5, 6] rfl) h
          · have h := h.2 c9
            refine lv_dload hx hb dL_law_1993 (lv_at hl 1 rfl) ?_
            refine lv_dload hx hb dL_law_1995 (lv_at hl 1 rfl) ?_
            refine lv_dcmp hx hb dL_law_1997 ?_
            refine lv_if_eq (tgt := 2009) hx hb dL_law_1998 (by decide) (fun c9 => ?_) (fun c9 => ?_)
            · have h := h.1 c9
              exact j2009 _ _ _ _ _ _ hk S (lv_sub hl [] rfl) h
            · have h := h.2 c9
              refine lv_dload hx hb dL_law_2001 (lv_at hl 0 rfl) ?_
              refine lv_dload hx hb dL_law_2003 (lv_at hl 0 rfl) ?_
              refine lv_dcmp hx hb dL_law_2005 ?_
              refine lv_if_ne (tgt := 2011) hx hb dL_law_2006 (by decide) (fun c9 => ?_) (fun c9 => ?_)
              · have h := h.1 c9
                exact j2011 _ _ _ _ _ _ _ _ _ _ _ hk S (lv_sub hl [2, 3, 4, 5, 6] rfl) h
              · have h := h.2 c9
                exact j2009 _ _ _ _ _ _ hk S (lv_sub hl [] rfl) h
        by_cases c29 : (v23 &&& 31) = 29
        · have h := h.2.2.2.2.2.2.2.2.2.2.2.2.2.2.2.2.2.2.2.2.2.2.2.2.2.2.2.2.2.1 c29
          rw [c29]
          refine lv_tableIn (tgt := 2014) hx hb dL_law_40 (by decide) (by decide) rfl (by decide) ?_
          refine lv_aload_n hx hb dL_law_2014 rfl (lv_at hl 1 rfl) ?_
          obtain ⟨hI, h⟩ := h
          obtain ⟨N537, N538, eM9, hdj, hN9⟩ := h
          subst eM9
          have h := hN9
          refine mm_V (As := []) (rest := []) C S hl.1 (mMet.frame hdj (wk_X1_doneShare hst0 h)) (T := TX1) rfl hI (lw_V q415 q416 q417 q48 q418) rfl pd_X1_doneShare ⟨Nat.le_of_ble_eq_true rfl, Nat.le_of_ble_eq_true rfl⟩ rfl rfl (Nat.le_of_ble_eq_true rfl) dL_law_2015 rfl rfl hk (Nat.zero_add _) (fun v9 M530 H locs hP S hk => ?_) (fun E q ce M9 H9 locs9 hX => by obtain ⟨_, h9, _⟩ := hX; exact h9.elim)
          obtain ⟨_, ⟨g531, rfl, h⟩, eM8, hd9⟩ := hP
          have h := h hd9
          rw [← eM8] at h
          refine W.eq (g2 := F0 m 2018 ls [.float g531]) rfl ?_
          refine lv_f2d hx hb dL_law_2018 h.1 ?_
          have h := h.2
          refine lv_dstore (lv' := [(5, .double (FP.f2d g531)), (0, .ref a0), (1, .ref a1), (2, .ref a2), (3, .ref a3), (4, .int x4)]) hx hb dL_law_2019 hl (by decide) rfl (fun ls hl => ?_)
          refine lv_aload_n hx hb dL_law_2021 rfl (lv_at hl 3 rfl) ?_
          obtain ⟨hI, h⟩ := h
          obtain ⟨N534, N535, eM9, hdj, hN9⟩ := h
          subst eM9
          have h := hN9
          refine mm_V (As := []) (rest := []) C S hl.1 (mMet.frame hdj (wk_X4_doneShare hst0 h)) (T := TX4) rfl hI (lw_V q2066 q2067 q2068 q58 q2069) rfl pd_X4_doneShare ⟨Nat.le_of_ble_eq_true rfl, Nat.le_of_ble_eq_true rfl⟩ rfl rfl (Nat.le_of_ble_eq_true rfl) dL_law_2022 rfl rfl hk (Nat.zero_add _) (fun v9 M532 H locs hP S hk => ?_) (fun E q ce M9 H9 locs9 hX => by obtain ⟨_, h9, _⟩ := hX; exact h9.elim)
          obtain ⟨_, ⟨g533, rfl, h⟩, eM8, hd9⟩ := hP
          have h := h hd9
          rw [← eM8] at h
          refine W.eq (g2 := F0 m 2025 ls [.float g533]) rfl ?_
          refine lv_f2d hx hb dL_law_2025 h.1 ?_
          have h := h.2
          refine lv_dstore (lv' := [(7, .double (FP.f2d g533)), (5, .double (FP.f2d g531)), (0, .ref a0), (1, .ref a1), (2, .ref a2), (3, .ref a3), (4, .int x4)]) hx hb dL_law_2026 hl (by decide) rfl (fun ls hl => ?_)
          refine lv_dload hx hb dL_law_2028 (lv_at hl 1 rfl) ?_
          refine lv_dload hx hb dL_law_2030 (lv_at hl 0 rfl) ?_
          refine lv_dcmp hx hb dL_law_2032 ?_
          refine lv_if_eq (tgt := 2054) hx hb dL_law_2033 (by decide) (fun c9 => ?_) (fun c9 => ?_)
          · have h := h.1 c9
            exact j2054 _ _ _ _ _ _ _ _ _ _ _ hk S (lv_sub hl [2, 3, 4, 5, 6] rfl) h
          · have h := h.2 c9
            refine lv_dload hx hb dL_law_2036 (lv_at hl 1 rfl) ?_
            refine lv_dload hx hb dL_law_2038 (lv_at hl 1 rfl) ?_
            refine lv_dcmp hx hb dL_law_2040 ?_
            refine lv_if_eq (tgt := 2052) hx hb dL_law_2041 (by decide) (fun c9 => ?_) (fun c9 => ?_)
            · have h := h.1 c9
              exact j2052 _ _ _ _ _ _ hk S (lv_sub hl [] rfl) h
            · have h := h.2 c9
              refine lv_dload hx hb dL_law_2044 (lv_at hl 0 rfl) ?_
              refine lv_dload hx hb dL_law_2046 (lv_at hl 0 rfl) ?_
              refine lv_dcmp hx hb dL_law_2048 ?_
              refine lv_if_ne (tgt := 2054) hx hb dL_law_2049 (by decide) (fun c9 => ?_) (fun c9 => ?_)
              · have h := h.1 c9
                exact j2054 _ _ _ _ _ _ _ _ _ _ _ hk S (lv_sub hl [2, 3, 4, 5, 6] rfl) h
              · have h := h.2 c9
                exact j2052 _ _ _ _ _ _ hk S (lv_sub hl [] rfl) h
        have h := h.2.2.2.2.2.2.2.2.2.2.2.2.2.2.2.2.2.2.2.2.2.2.2.2.2.2.2.2.2.2 c0 c1 c2 c3 c4 c5 c6 c7 c8 c9 c10 c11 c12 c13 c14 c15 c16 c17 c18 c19 c20 c21 c22 c23 c24 c25 c26 c27 c28 c29
        refine lv_tableOut (tgt := 2057) hx hb dL_law_40 (mSw0_29 c0 c1 c2 c3 c4 c5 c6 c7 c8 c9 c10 c11 c12 c13 c14 c15 c16 c17 c18 c19 c20 c21 c22 c23 c24 c25 c26 c27 c28 c29) (by decide) ?_
        exact j2057 _ _ _ _ _ _ _ _ _ _ _ hk S hl h
  unfold wp_L_law at h
  refine mm_new C S (ci := 0) (T := TX1) rfl in_X1 tyX1_ok q94 q95 q48 dfX1 (by decide) dL_law_0 rfl rfl hk h (fun u1 M2 r3 H h S hk => ?_)
  refine lv_dup hx hb dL_law_3 rfl ?_
  obtain ⟨b5, r6, hb9, h⟩ := h
  obtain ⟨N19, N20, eM9, hdj, hN9⟩ := h
  subst eM9
  have h := hN9
  refine mm_I (As := []) (rest := [.ref u1]) C S hl.1 (mMet.frame hdj (wk_X1_init hst0 h)) q98 q48 q96 q97 rfl pd_X1_init ⟨Nat.le_of_ble_eq_true rfl, Nat.le_of_ble_eq_true rfl⟩ rfl rfl (Nat.le_of_ble_eq_true rfl) dL_law_4 rfl rfl hk hb9 (fun v9 M4 H locs hP S hk => ?_) (fun E q ce M9 H9 locs9 hX => by obtain ⟨_, h9, _⟩ := hX; exact h9.elim)
  obtain ⟨_, ⟨rfl, h⟩, eM8, hd9⟩ := hP
  have h := h hd9
  rw [← eM8] at h
  refine W.eq (g2 := F0 m 7 ls [.ref u1]) rfl ?_
  refine lv_astore_n (lv' := [(1, .ref u1), (0, .ref a0)]) hx hb dL_law_7 rfl hl (by decide) rfl (fun ls hl => ?_)
  refine mm_new C S (ci := 3) (T := TX4) rfl in_X4 tyX4_ok q1659 q1660 q58 dfX4 (by decide) dL_law_8 rfl rfl hk h (fun u7 M8 r9 H h S hk => ?_)
  refine lv_dup hx hb dL_law_11 rfl ?_
  obtain ⟨b11, r12, hb9, h⟩ := h
  obtain ⟨N16, N17, eM9, hdj, hN9⟩ := h
  subst eM9
  have h := hN9
  refine mm_I (As := []) (rest := [.ref u7]) C S hl.1 (mMet.frame hdj (wk_X4_init hst0 h)) q1663 q58 q1661 q1662 rfl pd_X4_init ⟨Nat.le_of_ble_eq_true rfl, Nat.le_of_ble_eq_true rfl⟩ rfl rfl (Nat.le_of_ble_eq_true rfl) dL_law_12 rfl rfl hk hb9 (fun v9 M10 H locs hP S hk => ?_) (fun E q ce M9 H9 locs9 hX => by obtain ⟨_, h9, _⟩ := hX; exact h9.elim)
  obtain ⟨_, ⟨rfl, h⟩, eM8, hd9⟩ := hP
  have h := h hd9
  rw [← eM8] at h
  refine W.eq (g2 := F0 m 15 ls [.ref u7]) rfl ?_
  refine lv_astore_n (lv' := [(2, .ref u7), (1, .ref u1), (0, .ref a0)]) hx hb dL_law_15 rfl hl (by decide) rfl (fun ls hl => ?_)
  refine lv_iconst (v := 1) hx hb dL_law_16 (by decide) ?_
  refine mm_newa C S (t := 4) (ty := .long) (atype := .long) rfl rfl (by decide) q2071 (fun _ h9 => h9) (fun _ => rfl) (by decide) dL_law_17 rfl rfl hk h (fun u13 M14 r15 k H h S hk => ?_)
  refine lv_astore_n (lv' := [(3, .ref u13), (2, .ref u7), (1, .ref u1), (0, .ref a0)]) hx hb dL_law_19 rfl hl (by decide) rfl (fun ls hl => ?_)
  refine lv_iconst (v := 0) hx hb dL_law_20 (by decide) ?_
  refine lv_istore (lv' := [(4, .int 0), (3, .ref u13), (2, .ref u7), (1, .ref u1), (0, .ref a0)]) hx hb dL_law_21 hl (by decide) rfl (fun ls hl => ?_)
  obtain ⟨nf, h⟩ := h
  exact j23 nf _ _ _ _ _ _ _ _ _ _ _ hk S (lv_sub hl [4, 3, 2, 1, 0] rfl) h
