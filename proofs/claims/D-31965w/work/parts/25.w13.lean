/-! X4_read: level 19 -/
def wb_X4_read_158 (R_X4_read : mG → Nat → (Int32 → mM → Prop) → mM → Nat → Int32 → Prop) (G : mG) (P : Int32 → mM → Prop) (K29 : Nat → mM → Nat → Int32 → Prop) (r : Nat) (M : mM) (a0 : Nat) (x1 : Int32) : Prop :=
  K29 r M a0 x1
def wb_X4_read_130 (R_X4_read : mG → Nat → (Int32 → mM → Prop) → mM → Nat → Int32 → Prop) (G : mG) (P : Int32 → mM → Prop) (K29 : Nat → mM → Nat → Int32 → Prop) (r : Nat) (M : mM) (a0 : Nat) (x1 : Int32) : Prop :=
  gfi M a0 3 19 fun v33 => isc M a0 3 ∧ (wp_X4_letter G 0 (fun v35 M34 => wp_X4_isIn G 0 (fun v37 M36 => (v37 = 0 → wb_X4_read_158 R_X4_read G P K29 r M36 a0 x1) ∧ (¬ v37 = 0 → gfi M36 a0 3 19 fun v38 => pfi M36 a0 3 19 (v38 + 1) fun M39 => wb_X4_read_158 R_X4_read G P K29 r M39 a0 x1)) M34 v35 50 57) M a0 v33)
def wb_X4_read_72 (R_X4_read : mG → Nat → (Int32 → mM → Prop) → mM → Nat → Int32 → Prop) (G : mG) (P : Int32 → mM → Prop) (K29 : Nat → mM → Nat → Int32 → Prop) (r : Nat) (M : mM) (a0 : Nat) (x1 : Int32) : Prop :=
  isc M a0 3 ∧ (wp_X4_is G 0 (fun v22 M21 => gfi M21 a0 3 19 fun v23 => pfi M21 a0 3 19 (v23 + 1) fun M24 => (v22 = 0 → wb_X4_read_130 R_X4_read G P K29 r M24 a0 x1) ∧ (¬ v22 = 0 → isc M24 a0 3 ∧ (R_X4_read G 0 (fun v26 M25 => (¬ v26 = 0 → isc M25 a0 3 ∧ (wp_X4_is G 0 (fun v28 M27 => (¬ v28 = 0 → gfi M27 a0 3 19 fun v29 => pfi M27 a0 3 19 (v29 + 1) fun M30 => wb_X4_read_130 R_X4_read G P K29 r M30 a0 x1) ∧ (v28 = 0 → isc M27 a0 3 ∧ (wp_X4_wrong G 0 (fun v32 M31 => narrow .boolean (.int v32) = .int v32 ∧ P v32 M31) M27 a0 1))) M25 a0 41)) ∧ (v26 = 0 → narrow .boolean (.int 0) = .int 0 ∧ P 0 M25)) M24 a0 (x1 + 1)))) M a0 40)
def wb_X4_read_52 (R_X4_read : mG → Nat → (Int32 → mM → Prop) → mM → Nat → Int32 → Prop) (G : mG) (P : Int32 → mM → Prop) (K29 : Nat → mM → Nat → Int32 → Prop) (r : Nat) (M : mM) (a0 : Nat) (x1 : Int32) : Prop :=
  isc M a0 3 ∧ (wp_X4_is G 0 (fun v18 M17 => (v18 = 0 → wb_X4_read_72 R_X4_read G P K29 r M17 a0 x1) ∧ (¬ v18 = 0 → (¬ x1 = 4 → wb_X4_read_72 R_X4_read G P K29 r M17 a0 x1) ∧ (x1 = 4 → isc M17 a0 3 ∧ (wp_X4_wrong G 0 (fun v20 M19 => narrow .boolean (.int v20) = .int v20 ∧ P v20 M19) M17 a0 2)))) M a0 40)
def wl_X4_read_29 (R_X4_read : mG → Nat → (Int32 → mM → Prop) → mM → Nat → Int32 → Prop) (G : mG) (P : Int32 → mM → Prop) : Nat → Nat → mM → Nat → Int32 → Prop
  | 0, _, _, _, _ => False
  | n + 1, r, M, a0, x1 => isc M a0 3 ∧ (wp_X4_is G 0 (fun v11 M10 => (¬ v11 = 0 → wb_X4_read_52 R_X4_read G P (wl_X4_read_29 R_X4_read G P n) r M10 a0 x1) ∧ (v11 = 0 → gfi M10 a0 3 19 fun v12 => isc M10 a0 3 ∧ (wp_X4_letter G 0 (fun v14 M13 => wp_X4_isWay G 0 (fun v16 M15 => (v16 = 0 → narrow .boolean (.int 1) = .int 1 ∧ P 1 M15) ∧ (¬ v16 = 0 → wb_X4_read_52 R_X4_read G P (wl_X4_read_29 R_X4_read G P n) r M15 a0 x1)) M13 v14) M10 a0 v12))) M a0 40)
def wp_X4_read (R_X4_read : mG → Nat → (Int32 → mM → Prop) → mM → Nat → Int32 → Prop) (G : mG) (b : Nat) (P : Int32 → mM → Prop) (M : mM) (a0 : Nat) (x1 : Int32) : Prop :=
  isc M a0 3 ∧ (wp_X4_is G 0 (fun v2 M1 => (¬ v2 = 0 → ∃ n29, wl_X4_read_29 R_X4_read G P n29 b M1 a0 x1) ∧ (v2 = 0 → gfi M1 a0 3 19 fun v3 => isc M1 a0 3 ∧ (wp_X4_letter G 0 (fun v5 M4 => wp_X4_isWay G 0 (fun v7 M6 => (¬ v7 = 0 → ∃ n29, wl_X4_read_29 R_X4_read G P n29 b M6 a0 x1) ∧ (v7 = 0 → isc M6 a0 3 ∧ (wp_X4_wrong G 0 (fun v9 M8 => narrow .boolean (.int v9) = .int v9 ∧ P v9 M8) M6 a0 1))) M4 v5) M1 a0 v3))) M a0 40)
set_option maxHeartbeats 4000000 in
set_option maxRecDepth 100000 in
theorem wks_X4_read {l : Launch} (hst0 : l.stackTraces = false) {Lr : Nat} (hLr : 12 ≤ Lr) {R_X4_read : mG → Nat → (Int32 → mM → Prop) → mM → Nat → Int32 → Prop} (hrec_X4_read : ∀ {G : mG} {b : Nat} {P : Int32 → mM → Prop} {M : mM} {a0 : Nat} {x1 : Int32}, R_X4_read G b P M a0 x1 → mMet l yX4_read (ws_ yX4_read cX4_read 3 (Option.some Jvm.ClassFile.FieldType.boolean)) Lr b G [.ref a0, .int x1] M (mRi P) (fun _ _ _ => False)) {G : mG} {b : Nat} {P : Int32 → mM → Prop} {M : mM} {a0 : Nat} {x1 : Int32} (h : wp_X4_read R_X4_read G b P M a0 x1) : mMet l yX4_read (ws_ yX4_read cX4_read 3 (Option.some Jvm.ClassFile.FieldType.boolean)) (Lr + 1) b G [.ref a0, .int x1] M (mRi P) (fun _ _ _ => False) := by
  refine mm_met hst0 (by decide) (Nat.le_of_ble_eq_true rfl) ?_
  intro p e s m args below meth c ls C hr hnt hnm hl S
  have hl : lv_has ls 3 [(0, .ref a0), (1, .int x1)] := hl
  generalize mA M s.heap.size = A at C S ⊢
  have hx := C.hx
  have hb := C.hb
  have hk : 0 + b ≤ b := Nat.le_of_eq (Nat.zero_add b)
  have j29 : ∀ (nf : Nat) (k r : Nat) (M : mM) (H : Heap) (locs : List Loc) (ls : Array Slot) (a0 : Nat) (x1 : Int32), k + r ≤ b → mW G A s M H locs → lv_has ls 3 [(0, .ref a0), (1, .int x1)] → wl_X4_read_29 R_X4_read G P nf r M a0 x1 → W p l e (mRm (Lr + 1) b) s m args below meth c H locs k k (vx_MQ below (mQ G A (mRi P)) (mXC G A (fun _ _ _ => False)) args s b b A) (F0 m 29 ls []) := by
    intro nf
    induction nf with
    | zero =>
      intro k r M H locs ls a0 x1 hk S hl h
      rw [wl_X4_read_29] at h
      exact h.elim
    | succ n29 ih29 =>
      have j158 : ∀ (k r : Nat) (M : mM) (H : Heap) (locs : List Loc) (ls : Array Slot) (a0 : Nat) (x1 : Int32), k + r ≤ b → mW G A s M H locs → lv_has ls 3 [(0, .ref a0), (1, .int x1)] → wb_X4_read_158 R_X4_read G P (wl_X4_read_29 R_X4_read G P n29) r M a0 x1 → W p l e (mRm (Lr + 1) b) s m args below meth c H locs k k (vx_MQ below (mQ G A (mRi P)) (mXC G A (fun _ _ _ => False)) args s b b A) (F0 m 158 ls []) := by
        intro k r M H locs ls a0 x1 hk S hl h
        unfold wb_X4_read_158 at h
        refine lv_goto (tgt := 29) hx hb dX4_read_158 (by decide) ?_
        exact ih29 _ _ _ _ _ _ _ _ hk S hl h
      have j130 : ∀ (k r : Nat) (M : mM) (H : Heap) (locs : List Loc) (ls : Array Slot) (a0 : Nat) (x1 : Int32), k + r ≤ b → mW G A s M H locs → lv_has ls 3 [(0, .ref a0), (1, .int x1)] → wb_X4_read_130 R_X4_read G P (wl_X4_read_29 R_X4_read G P n29) r M a0 x1 → W p l e (mRm (Lr + 1) b) s m args below meth c H locs k k (vx_MQ below (mQ G A (mRi P)) (mXC G A (fun _ _ _ => False)) args s b b A) (F0 m 130 ls []) := by
        intro k r M H locs ls a0 x1 hk S hl h
        unfold wb_X4_read_130 at h
        refine lv_aload_n hx hb dX4_read_130 rfl (lv_at hl 0 rfl) ?_
        refine lv_aload_n hx hb dX4_read_131 rfl (lv_at hl 0 rfl) ?_
        refine mm_gfi C S (ci := 3) (k := 19) rfl in_X4 (by decide) q1689 (fun _ h9 => h9) dX4_read_132 h (fun v33 h => ?_)
        obtain ⟨hI, h⟩ := h
        refine mm_V (As := [.int v33]) (rest := []) C S hl.1 (wk_X4_letter hst0 h) (T := TX4) rfl hI (lw_V q1906 q1908 qs29 q58 q1909) rfl pd_X4_letter ⟨by simp only [mRm]; omega, by simp only [mRm]; omega⟩ rfl rfl (Nat.le_of_ble_eq_true rfl) dX4_read_135 rfl rfl hk (Nat.zero_add _) (fun v9 M34 H locs hP S hk => ?_) (fun E q ce M9 H9 locs9 hX => hX.elim)
        obtain ⟨v35, rfl, h⟩ := hP
        refine W.eq (g2 := F0 m 138 ls [.int v35]) rfl ?_
        refine lv_bipush (v := 50) hx hb dX4_read_138 (by decide) ?_
        refine lv_bipush (v := 57) hx hb dX4_read_140 (by decide) ?_
        refine mm_S (As := [.int v35, .int 50, .int 57]) (rest := []) C S hl.1 (wk_X4_isIn hst0 h) (lw_S q1830 q1831 q58 q1832) pd_X4_isIn ⟨by simp only [mRm]; omega, by simp only [mRm]; omega⟩ rfl rfl (Nat.le_of_ble_eq_true rfl) dX4_read_142 rfl rfl hk (Nat.zero_add _) (fun v9 M36 H locs hP S hk => ?_) (fun E q ce M9 H9 locs9 hX => hX.elim)
        obtain ⟨v37, rfl, h⟩ := hP
        refine W.eq (g2 := F0 m 145 ls [.int v37]) rfl ?_
        refine lv_if_eq (tgt := 158) hx hb dX4_read_145 (by decide) (fun c9 => ?_) (fun c9 => ?_)
        · have h := h.1 c9
          exact j158 _ _ _ _ _ _ _ _ hk S hl h
        · have h := h.2 c9
          refine lv_aload_n hx hb dX4_read_148 rfl (lv_at hl 0 rfl) ?_
          refine lv_dup hx hb dX4_read_149 rfl ?_
          refine mm_gfi C S (ci := 3) (k := 19) rfl in_X4 (by decide) q1689 (fun _ h9 => h9) dX4_read_150 h (fun v38 h => ?_)
          refine lv_iconst (v := 1) hx hb dX4_read_153 (by decide) ?_
          refine lv_iadd hx hb dX4_read_154 ?_
          refine mm_pfi C S (ci := 3) (k := 19) rfl in_X4 tyX4_ok nmX4 (by decide) q1689 (fun _ h9 => h9) rfl dX4_read_155 rfl h (fun M39 H locs h S => ?_)
          exact j158 _ _ _ _ _ _ _ _ hk S hl h
      have j72 : ∀ (k r : Nat) (M : mM) (H : Heap) (locs : List Loc) (ls : Array Slot) (a0 : Nat) (x1 : Int32), k + r ≤ b → mW G A s M H locs → lv_has ls 3 [(0, .ref a0), (1, .int x1)] → wb_X4_read_72 R_X4_read G P (wl_X4_read_29 R_X4_read G P n29) r M a0 x1 → W p l e (mRm (Lr + 1) b) s m args below meth c H locs k k (vx_MQ below (mQ G A (mRi P)) (mXC G A (fun _ _ _ => False)) args s b b A) (F0 m 72 ls []) := by
        intro k r M H locs ls a0 x1 hk S hl h
        unfold wb_X4_read_72 at h
        refine lv_aload_n hx hb dX4_read_72 rfl (lv_at hl 0 rfl) ?_
        refine lv_bipush (v := 40) hx hb dX4_read_73 (by decide) ?_
        obtain ⟨hI, h⟩ := h
        refine mm_V (As := [.int 40]) (rest := []) C S hl.1 (wk_X4_is hst0 h) (T := TX4) rfl hI (lw_V q1902 q1904 qs28 q58 q1905) rfl pd_X4_is ⟨by simp only [mRm]; omega, by simp only [mRm]; omega⟩ rfl rfl (Nat.le_of_ble_eq_true rfl) dX4_read_75 rfl rfl hk (Nat.zero_add _) (fun v9 M21 H locs hP S hk => ?_) (fun E q ce M9 H9 locs9 hX => hX.elim)
        obtain ⟨v22, rfl, h⟩ := hP
        refine W.eq (g2 := F0 m 78 ls [.int v22]) rfl ?_
        refine lv_istore_n (lv' := [(2, .int v22), (0, .ref a0), (1, .int x1)]) hx hb dX4_read_78 rfl hl (by decide) rfl (fun ls hl => ?_)
        refine lv_aload_n hx hb dX4_read_79 rfl (lv_at hl 1 rfl) ?_
        refine lv_dup hx hb dX4_read_80 rfl ?_
        refine mm_gfi C S (ci := 3) (k := 19) rfl in_X4 (by decide) q1689 (fun _ h9 => h9) dX4_read_81 h (fun v23 h => ?_)
        refine lv_iconst (v := 1) hx hb dX4_read_84 (by decide) ?_
        refine lv_iadd hx hb dX4_read_85 ?_
        refine mm_pfi C S (ci := 3) (k := 19) rfl in_X4 tyX4_ok nmX4 (by decide) q1689 (fun _ h9 => h9) rfl dX4_read_86 rfl h (fun M24 H locs h S => ?_)
        refine lv_iload_n hx hb dX4_read_89 rfl (lv_at hl 0 rfl) ?_
        refine lv_if_eq (tgt := 130) hx hb dX4_read_90 (by decide) (fun c9 => ?_) (fun c9 => ?_)
        · have h := h.1 c9
          exact j130 _ _ _ _ _ _ _ _ hk S (lv_sub hl [1, 2] rfl) h
        · have h := h.2 c9
          refine lv_aload_n hx hb dX4_read_93 rfl (lv_at hl 1 rfl) ?_
          refine lv_iload_n hx hb dX4_read_94 rfl (lv_at hl 2 rfl) ?_
          refine lv_iconst (v := 1) hx hb dX4_read_95 (by decide) ?_
          refine lv_iadd hx hb dX4_read_96 ?_
          obtain ⟨hI, h⟩ := h
          refine mm_V (As := [.int (x1 + 1)]) (rest := []) C S hl.1 (hrec_X4_read h) (T := TX4) rfl hI (lw_V q1898 q1900 qs27 q58 q1901) rfl pd_X4_read ⟨by simp only [mRm]; omega, by simp only [mRm]; omega⟩ rfl rfl (Nat.le_of_ble_eq_true rfl) dX4_read_97 rfl rfl hk (Nat.zero_add _) (fun v9 M25 H locs hP S hk => ?_) (fun E q ce M9 H9 locs9 hX => hX.elim)
          obtain ⟨v26, rfl, h⟩ := hP
          refine W.eq (g2 := F0 m 100 ls [.int v26]) rfl ?_
          refine lv_if_ne (tgt := 105) hx hb dX4_read_100 (by decide) (fun c9 => ?_) (fun c9 => ?_)
          · have h := h.1 c9
            refine lv_aload_n hx hb dX4_read_105 rfl (lv_at hl 1 rfl) ?_
            refine lv_bipush (v := 41) hx hb dX4_read_106 (by decide) ?_
            obtain ⟨hI, h⟩ := h
            refine mm_V (As := [.int 41]) (rest := []) C S hl.1 (wk_X4_is hst0 h) (T := TX4) rfl hI (lw_V q1902 q1904 qs28 q58 q1905) rfl pd_X4_is ⟨by simp only [mRm]; omega, by simp only [mRm]; omega⟩ rfl rfl (Nat.le_of_ble_eq_true rfl) dX4_read_108 rfl rfl hk (Nat.zero_add _) (fun v9 M27 H locs hP S hk => ?_) (fun E q ce M9 H9 locs9 hX => hX.elim)
            obtain ⟨v28, rfl, h⟩ := hP
            refine W.eq (g2 := F0 m 111 ls [.int v28]) rfl ?_
            refine lv_if_ne (tgt := 120) hx hb dX4_read_111 (by decide) (fun c9 => ?_) (fun c9 => ?_)
            · have h := h.1 c9
              refine lv_aload_n hx hb dX4_read_120 rfl (lv_at hl 1 rfl) ?_
              refine lv_dup hx hb dX4_read_121 rfl ?_
              refine mm_gfi C S (ci := 3) (k := 19) rfl in_X4 (by decide) q1689 (fun _ h9 => h9) dX4_read_122 h (fun v29 h => ?_)
              refine lv_iconst (v := 1) hx hb dX4_read_125 (by decide) ?_
              refine lv_iadd hx hb dX4_read_126 ?_
              refine mm_pfi C S (ci := 3) (k := 19) rfl in_X4 tyX4_ok nmX4 (by decide) q1689 (fun _ h9 => h9) rfl dX4_read_127 rfl h (fun M30 H locs h S => ?_)
              exact j130 _ _ _ _ _ _ _ _ hk S (lv_sub hl [1, 2] rfl) h
            · have h := h.2 c9
              refine lv_aload_n hx hb dX4_read_114 rfl (lv_at hl 1 rfl) ?_
              refine lv_iconst (v := 1) hx hb dX4_read_115 (by decide) ?_
              obtain ⟨hI, h⟩ := h
              refine mm_V (As := [.int 1]) (rest := []) C S hl.1 (wk_X4_wrong hst0 h) (T := TX4) rfl hI (lw_V q1913 q1915 qs30 q58 q1916) rfl pd_X4_wrong ⟨by simp only [mRm]; omega, by simp only [mRm]; omega⟩ rfl rfl (Nat.le_of_ble_eq_true rfl) dX4_read_116 rfl rfl hk (Nat.zero_add _) (fun v9 M31 H locs hP S hk => ?_) (fun E q ce M9 H9 locs9 hX => hX.elim)
              obtain ⟨v32, rfl, h⟩ := hP
              refine W.eq (g2 := F0 m 119 ls [.int v32]) rfl ?_
              exact mm_zret C S hr (Nat.le_trans (Nat.le_add_right _ _) hk) dX4_read_119 h
          · have h := h.2 c9
            refine lv_iconst (v := 0) hx hb dX4_read_103 (by decide) ?_
            exact mm_zret C S hr (Nat.le_trans (Nat.le_add_right _ _) hk) dX4_read_104 h
      have j52 : ∀ (k r : Nat) (M : mM) (H : Heap) (locs : List Loc) (ls : Array Slot) (a0 : Nat) (x1 : Int32), k + r ≤ b → mW G A s M H locs → lv_has ls 3 [(0, .ref a0), (1, .int x1)] → wb_X4_read_52 R_X4_read G P (wl_X4_read_29 R_X4_read G P n29) r M a0 x1 → W p l e (mRm (Lr + 1) b) s m args below meth c H locs k k (vx_MQ below (mQ G A (mRi P)) (mXC G A (fun _ _ _ => False)) args s b b A) (F0 m 52 ls []) := by
        intro k r M H locs ls a0 x1 hk S hl h
        unfold wb_X4_read_52 at h
        refine lv_aload_n hx hb dX4_read_52 rfl (lv_at hl 0 rfl) ?_
        refine lv_bipush (v := 40) hx hb dX4_read_53 (by decide) ?_
        obtain ⟨hI, h⟩ := h
        refine mm_V (As := [.int 40]) (rest := []) C S hl.1 (wk_X4_is hst0 h) (T := TX4) rfl hI (lw_V q1902 q1904 qs28 q58 q1905) rfl pd_X4_is ⟨by simp only [mRm]; omega, by simp only [mRm]; omega⟩ rfl rfl (Nat.le_of_ble_eq_true rfl) dX4_read_55 rfl rfl hk (Nat.zero_add _) (fun v9 M17 H locs hP S hk => ?_) (fun E q ce M9 H9 locs9 hX => hX.elim)
        obtain ⟨v18, rfl, h⟩ := hP
        refine W.eq (g2 := F0 m 58 ls [.int v18]) rfl ?_
        refine lv_if_eq (tgt := 72) hx hb dX4_read_58 (by decide) (fun c9 => ?_) (fun c9 => ?_)
        · have h := h.1 c9
          exact j72 _ _ _ _ _ _ _ _ hk S hl h
        · have h := h.2 c9
          refine lv_iload_n hx hb dX4_read_61 rfl (lv_at hl 1 rfl) ?_
          refine lv_iconst (v := 4) hx hb dX4_read_62 (by decide) ?_
          refine lv_icmp_ne (tgt := 72) hx hb dX4_read_63 (by decide) (fun c9 => ?_) (fun c9 => ?_)
          · have h := h.1 c9
            exact j72 _ _ _ _ _ _ _ _ hk S hl h
          · have h := h.2 c9
            refine lv_aload_n hx hb dX4_read_66 rfl (lv_at hl 0 rfl) ?_
            refine lv_iconst (v := 2) hx hb dX4_read_67 (by decide) ?_
            obtain ⟨hI, h⟩ := h
            refine mm_V (As := [.int 2]) (rest := []) C S hl.1 (wk_X4_wrong hst0 h) (T := TX4) rfl hI (lw_V q1913 q1915 qs30 q58 q1916) rfl pd_X4_wrong ⟨by simp only [mRm]; omega, by simp only [mRm]; omega⟩ rfl rfl (Nat.le_of_ble_eq_true rfl) dX4_read_68 rfl rfl hk (Nat.zero_add _) (fun v9 M19 H locs hP S hk => ?_) (fun E q ce M9 H9 locs9 hX => hX.elim)
            obtain ⟨v20, rfl, h⟩ := hP
            refine W.eq (g2 := F0 m 71 ls [.int v20]) rfl ?_
            exact mm_zret C S hr (Nat.le_trans (Nat.le_add_right _ _) hk) dX4_read_71 h
      intro k r M H locs ls a0 x1 hk S hl h
      rw [wl_X4_read_29] at h
      refine lv_aload_n hx hb dX4_read_29 rfl (lv_at hl 0 rfl) ?_
      refine lv_bipush (v := 40) hx hb dX4_read_30 (by decide) ?_
      obtain ⟨hI, h⟩ := h
      refine mm_V (As := [.int 40]) (rest := []) C S hl.1 (wk_X4_is hst0 h) (T := TX4) rfl hI (lw_V q1902 q1904 qs28 q58 q1905) rfl pd_X4_is ⟨by simp only [mRm]; omega, by simp only [mRm]; omega⟩ rfl rfl (Nat.le_of_ble_eq_true rfl) dX4_read_32 rfl rfl hk (Nat.zero_add _) (fun v9 M10 H locs hP S hk => ?_) (fun E q ce M9 H9 locs9 hX => hX.elim)
      obtain ⟨v11, rfl, h⟩ := hP
      refine W.eq (g2 := F0 m 35 ls [.int v11]) rfl ?_
      refine lv_if_ne (tgt := 52) hx hb dX4_read_35 (by decide) (fun c9 => ?_) (fun c9 => ?_)
      · have h := h.1 c9
        exact j52 _ _ _ _ _ _ _ _ hk S hl h
      · have h := h.2 c9
        refine lv_aload_n hx hb dX4_read_38 rfl (lv_at hl 0 rfl) ?_
        refine lv_aload_n hx hb dX4_read_39 rfl (lv_at hl 0 rfl) ?_
        refine mm_gfi C S (ci := 3) (k := 19) rfl in_X4 (by decide) q1689 (fun _ h9 => h9) dX4_read_40 h (fun v12 h => ?_)
        obtain ⟨hI, h⟩ := h
        refine mm_V (As := [.int v12]) (rest := []) C S hl.1 (wk_X4_letter hst0 h) (T := TX4) rfl hI (lw_V q1906 q1908 qs29 q58 q1909) rfl pd_X4_letter ⟨by simp only [mRm]; omega, by simp only [mRm]; omega⟩ rfl rfl (Nat.le_of_ble_eq_true rfl) dX4_read_43 rfl rfl hk (Nat.zero_add _) (fun v9 M13 H locs hP S hk => ?_) (fun E q ce M9 H9 locs9 hX => hX.elim)
        obtain ⟨v14, rfl, h⟩ := hP
        refine W.eq (g2 := F0 m 46 ls [.int v14]) rfl ?_
        refine mm_S (As := [.int v14]) (rest := []) C S hl.1 (wk_X4_isWay hst0 h) (lw_S q1910 q1911 q58 q1912) pd_X4_isWay ⟨by simp only [mRm]; omega, by simp only [mRm]; omega⟩ rfl rfl (Nat.le_of_ble_eq_true rfl) dX4_read_46 rfl rfl hk (Nat.zero_add _) (fun v9 M15 H locs hP S hk => ?_) (fun E q ce M9 H9 locs9 hX => hX.elim)
        obtain ⟨v16, rfl, h⟩ := hP
        refine W.eq (g2 := F0 m 49 ls [.int v16]) rfl ?_
        refine lv_if_eq (tgt := 161) hx hb dX4_read_49 (by decide) (fun c9 => ?_) (fun c9 => ?_)
        · have h := h.1 c9
          refine lv_iconst (v := 1) hx hb dX4_read_161 (by decide) ?_
          exact mm_zret C S hr (Nat.le_trans (Nat.le_add_right _ _) hk) dX4_read_162 h
        · have h := h.2 c9
          exact j52 _ _ _ _ _ _ _ _ hk S hl h
  unfold wp_X4_read at h
  refine lv_aload_n hx hb dX4_read_0 rfl (lv_at hl 0 rfl) ?_
  refine lv_bipush (v := 40) hx hb dX4_read_1 (by decide) ?_
  obtain ⟨hI, h⟩ := h
  refine mm_V (As := [.int 40]) (rest := []) C S hl.1 (wk_X4_is hst0 h) (T := TX4) rfl hI (lw_V q1902 q1904 qs28 q58 q1905) rfl pd_X4_is ⟨by simp only [mRm]; omega, by simp only [mRm]; omega⟩ rfl rfl (Nat.le_of_ble_eq_true rfl) dX4_read_3 rfl rfl hk (Nat.zero_add _) (fun v9 M1 H locs hP S hk => ?_) (fun E q ce M9 H9 locs9 hX => hX.elim)
  obtain ⟨v2, rfl, h⟩ := hP
  refine W.eq (g2 := F0 m 6 ls [.int v2]) rfl ?_
  refine lv_if_ne (tgt := 29) hx hb dX4_read_6 (by decide) (fun c9 => ?_) (fun c9 => ?_)
  · have h := h.1 c9
    obtain ⟨nf, h⟩ := h
    exact j29 nf _ _ _ _ _ _ _ _ hk S hl h
  · have h := h.2 c9
    refine lv_aload_n hx hb dX4_read_9 rfl (lv_at hl 0 rfl) ?_
    refine lv_aload_n hx hb dX4_read_10 rfl (lv_at hl 0 rfl) ?_
    refine mm_gfi C S (ci := 3) (k := 19) rfl in_X4 (by decide) q1689 (fun _ h9 => h9) dX4_read_11 h (fun v3 h => ?_)
    obtain ⟨hI, h⟩ := h
    refine mm_V (As := [.int v3]) (rest := []) C S hl.1 (wk_X4_letter hst0 h) (T := TX4) rfl hI (lw_V q1906 q1908 qs29 q58 q1909) rfl pd_X4_letter ⟨by simp only [mRm]; omega, by simp only [mRm]; omega⟩ rfl rfl (Nat.le_of_ble_eq_true rfl) dX4_read_14 rfl rfl hk (Nat.zero_add _) (fun v9 M4 H locs hP S hk => ?_) (fun E q ce M9 H9 locs9 hX => hX.elim)
    obtain ⟨v5, rfl, h⟩ := hP
    refine W.eq (g2 := F0 m 17 ls [.int v5]) rfl ?_
    refine mm_S (As := [.int v5]) (rest := []) C S hl.1 (wk_X4_isWay hst0 h) (lw_S q1910 q1911 q58 q1912) pd_X4_isWay ⟨by simp only [mRm]; omega, by simp only [mRm]; omega⟩ rfl rfl (Nat.le_of_ble_eq_true rfl) dX4_read_17 rfl rfl hk (Nat.zero_add _) (fun v9 M6 H locs hP S hk => ?_) (fun E q ce M9 H9 locs9 hX => hX.elim)
    obtain ⟨v7, rfl, h⟩ := hP
    refine W.eq (g2 := F0 m 20 ls [.int v7]) rfl ?_
    refine lv_if_ne (tgt := 29) hx hb dX4_read_20 (by decide) (fun c9 => ?_) (fun c9 => ?_)
    · have h := h.1 c9
      obtain ⟨nf, h⟩ := h
      exact j29 nf _ _ _ _ _ _ _ _ hk S hl h
    · have h := h.2 c9
      refine lv_aload_n hx hb dX4_read_23 rfl (lv_at hl 0 rfl) ?_
      refine lv_iconst (v := 1) hx hb dX4_read_24 (by decide) ?_
      obtain ⟨hI, h⟩ := h
      refine mm_V (As := [.int 1]) (rest := []) C S hl.1 (wk_X4_wrong hst0 h) (T := TX4) rfl hI (lw_V q1913 q1915 qs30 q58 q1916) rfl pd_X4_wrong ⟨by simp only [mRm]; omega, by simp only [mRm]; omega⟩ rfl rfl (Nat.le_of_ble_eq_true rfl) dX4_read_25 rfl rfl hk (Nat.zero_add _) (fun v9 M8 H locs hP S hk => ?_) (fun E q ce M9 H9 locs9 hX => hX.elim)
      obtain ⟨v9, rfl, h⟩ := hP
      refine W.eq (g2 := F0 m 28 ls [.int v9]) rfl ?_
      exact mm_zret C S hr (Nat.le_trans (Nat.le_add_right _ _) hk) dX4_read_28 h
def wR_X4_read : Nat → (mG → Nat → (Int32 → mM → Prop) → mM → Nat → Int32 → Prop)
  | 0 => (fun _ _ _ _ _ _ => False)
  | d + 1 => (wp_X4_read (wR_X4_read d))
def wr_X4_read (d : Nat) : mG → Nat → (Int32 → mM → Prop) → mM → Nat → Int32 → Prop := (wR_X4_read d)
theorem wK_X4_read {l : Launch} (hst0 : l.stackTraces = false) : ∀ d : Nat, (∀ {G : mG} {b : Nat} {P : Int32 → mM → Prop} {M : mM} {a0 : Nat} {x1 : Int32}, wr_X4_read d G b P M a0 x1 → mMet l yX4_read (ws_ yX4_read cX4_read 3 (Option.some Jvm.ClassFile.FieldType.boolean)) (12 + d) b G [.ref a0, .int x1] M (mRi P) (fun _ _ _ => False)) ∧ True
  | 0 => ⟨fun h => h.elim, trivial⟩
  | d + 1 => by
    have ih := wK_X4_read hst0 d
    exact ⟨fun h => wks_X4_read hst0 (Lr := 12 + d) (by omega) (fun h => (ih.1) h) h, trivial⟩
theorem wk_X4_read {l : Launch} (hst0 : l.stackTraces = false) {G : mG} {b : Nat} {P : Int32 → mM → Prop} {M : mM} {a0 : Nat} {x1 : Int32} (h : wr_X4_read 7 G b P M a0 x1) : mMet l yX4_read (ws_ yX4_read cX4_read 3 (Option.some Jvm.ClassFile.FieldType.boolean)) 19 b G [.ref a0, .int x1] M (mRi P) (fun _ _ _ => False) := (wK_X4_read hst0 7).1 h
/-! X4_isRoute: level 20 -/
def wp_X4_isRoute (G : mG) (b : Nat) (P : Int32 → mM → Prop) (M : mM) (a0 : Nat) (x1 : Int32) : Prop :=
  pfi M a0 3 19 0 fun M1 => isc M1 a0 3 ∧ (wr_X4_read 7 G 0 (fun v3 M2 => (¬ v3 = 0 → gfi M2 a0 3 19 fun v4 => gfi M2 a0 3 18 fun v5 => (v5 ≤ v4 → pfi M2 a0 3 25 x1 fun M6 => gfa M6 a0 3 23 fun u7 => gfi M6 a0 3 24 fun v8 => sti M6 0 u7 v8 1 fun M9 => gfa M9 a0 3 26 fun u10 => gfi M9 a0 3 24 fun v11 => lda M9 8 u10 v11 fun u12 => sti M9 0 u12 0 x1 fun M13 => gfi M13 a0 3 18 fun v14 => isc M13 a0 3 ∧ (wr_X4_go 7 G 0 (fun v16 M15 => narrow .boolean (.int v16) = .int v16 ∧ P v16 M15) M13 a0 0 v14)) ∧ (¬ v5 ≤ v4 → isc M2 a0 3 ∧ (wp_X4_wrong G 0 (fun v18 M17 => narrow .boolean (.int v18) = .int v18 ∧ P v18 M17) M2 a0 1))) ∧ (v3 = 0 → narrow .boolean (.int 0) = .int 0 ∧ P 0 M2)) M1 a0 0)
set_option maxHeartbeats 4000000 in
set_option maxRecDepth 100000 in
theorem wk_X4_isRoute {l : Launch} (hst0 : l.stackTraces = false) {G : mG} {b : Nat} {P : Int32 → mM → Prop} {M : mM} {a0 : Nat} {x1 : Int32} (h : wp_X4_isRoute G b P M a0 x1) : mMet l yX4_isRoute (ws_ yX4_isRoute cX4_isRoute 2 (Option.some Jvm.ClassFile.FieldType.boolean)) 20 b G [.ref a0, .int x1] M (mRi P) (fun _ _ _ => False) := by
  refine mm_met hst0 (by decide) (Nat.le_of_ble_eq_true rfl) ?_
  intro p e s m args below meth c ls C hr hnt hnm hl S
  have hl : lv_has ls 2 [(0, .ref a0), (1, .int x1)] := hl
  generalize mA M s.heap.size = A at C S ⊢
  have hx := C.hx
  have hb := C.hb
  have hk : 0 + b ≤ b := Nat.le_of_eq (Nat.zero_add b)
  unfold wp_X4_isRoute at h
  refine lv_aload_n hx hb dX4_isRoute_0 rfl (lv_at hl 0 rfl) ?_
  refine lv_iconst (v := 0) hx hb dX4_isRoute_1 (by decide) ?_
  refine mm_pfi C S (ci := 3) (k := 19) rfl in_X4 tyX4_ok nmX4 (by decide) q1689 (fun _ h9 => h9) rfl dX4_isRoute_2 rfl h (fun M1 H locs h S => ?_)
  refine lv_aload_n hx hb dX4_isRoute_5 rfl (lv_at hl 0 rfl) ?_
  refine lv_iconst (v := 0) hx hb dX4_isRoute_6 (by decide) ?_
  obtain ⟨hI, h⟩ := h
  refine mm_V (As := [.int 0]) (rest := []) C S hl.1 (wk_X4_read hst0 h) (T := TX4) rfl hI (lw_V q1898 q1900 qs27 q58 q1901) rfl pd_X4_read ⟨Nat.le_of_ble_eq_true rfl, Nat.le_of_ble_eq_true rfl⟩ rfl rfl (Nat.le_of_ble_eq_true rfl) dX4_isRoute_7 rfl rfl hk (Nat.zero_add _) (fun v9 M2 H locs hP S hk => ?_) (fun E q ce M9 H9 locs9 hX => hX.elim)
  obtain ⟨v3, rfl, h⟩ := hP
  refine W.eq (g2 := F0 m 10 ls [.int v3]) rfl ?_
  refine lv_if_ne (tgt := 15) hx hb dX4_isRoute_10 (by decide) (fun c9 => ?_) (fun c9 => ?_)
  · have h := h.1 c9
    refine lv_aload_n hx hb dX4_isRoute_15 rfl (lv_at hl 0 rfl) ?_
    refine mm_gfi C S (ci := 3) (k := 19) rfl in_X4 (by decide) q1689 (fun _ h9 => h9) dX4_isRoute_16 h (fun v4 h => ?_)
    refine lv_aload_n hx hb dX4_isRoute_19 rfl (lv_at hl 0 rfl) ?_
    refine mm_gfi C S (ci := 3) (k := 18) rfl in_X4 (by decide) q1688 (fun _ h9 => h9) dX4_isRoute_20 h (fun v5 h => ?_)
    refine lv_icmp_ge (tgt := 32) hx hb dX4_isRoute_23 (by decide) (fun c9 => ?_) (fun c9 => ?_)
    · have h := h.1 c9
      refine lv_aload_n hx hb dX4_isRoute_32 rfl (lv_at hl 0 rfl) ?_
      refine lv_iload_n hx hb dX4_isRoute_33 rfl (lv_at hl 1 rfl) ?_
      refine mm_pfi C S (ci := 3) (k := 25) rfl in_X4 tyX4_ok nmX4 (by decide) q1695 (fun _ h9 => h9) rfl dX4_isRoute_34 rfl h (fun M6 H locs h S => ?_)
      refine lv_aload_n hx hb dX4_isRoute_37 rfl (lv_at hl 0 rfl) ?_
      refine mm_gfa C S (ci := 3) (k := 23) rfl in_X4 (by decide) q1693 (fun _ h9 => h9) dX4_isRoute_38 h (fun u7 h => ?_)
      refine lv_aload_n hx hb dX4_isRoute_41 rfl (lv_at hl 0 rfl) ?_
      refine mm_gfi C S (ci := 3) (k := 24) rfl in_X4 (by decide) q1694 (fun _ h9 => h9) dX4_isRoute_42 h (fun v8 h => ?_)
      refine lv_iconst (v := 1) hx hb dX4_isRoute_45 (by decide) ?_
      refine mm_iast C S h dX4_isRoute_46 (fun M9 H locs h S => ?_)
      refine lv_aload_n hx hb dX4_isRoute_47 rfl (lv_at hl 0 rfl) ?_
      refine mm_gfa C S (ci := 3) (k := 26) rfl in_X4 (by decide) q1696 (fun _ h9 => h9) dX4_isRoute_48 h (fun u10 h => ?_)
      refine lv_aload_n hx hb dX4_isRoute_51 rfl (lv_at hl 0 rfl) ?_
      refine mm_gfi C S (ci := 3) (k := 24) rfl in_X4 (by decide) q1694 (fun _ h9 => h9) dX4_isRoute_52 h (fun v11 h => ?_)
      refine mm_aald C S (t := 8) rfl rfl h dX4_isRoute_55 (fun u12 h => ?_)
      refine lv_iconst (v := 0) hx hb dX4_isRoute_56 (by decide) ?_
      refine lv_iload_n hx hb dX4_isRoute_57 rfl (lv_at hl 1 rfl) ?_
      refine mm_iast C S h dX4_isRoute_58 (fun M13 H locs h S => ?_)
      refine lv_aload_n hx hb dX4_isRoute_59 rfl (lv_at hl 0 rfl) ?_
      refine lv_iconst (v := 0) hx hb dX4_isRoute_60 (by decide) ?_
      refine lv_aload_n hx hb dX4_isRoute_61 rfl (lv_at hl 0 rfl) ?_
      refine mm_gfi C S (ci := 3) (k := 18) rfl in_X4 (by decide) q1688 (fun _ h9 => h9) dX4_isRoute_62 h (fun v14 h => ?_)
      obtain ⟨hI, h⟩ := h
      refine mm_V (As := [.int 0, .int v14]) (rest := []) C S hl.1 (wk_X4_go hst0 h) (T := TX4) rfl hI (lw_V q1917 q1919 qs31 q58 q1920) rfl pd_X4_go ⟨Nat.le_of_ble_eq_true rfl, Nat.le_of_ble_eq_true rfl⟩ rfl rfl (Nat.le_of_ble_eq_true rfl) dX4_isRoute_65 rfl rfl hk (Nat.zero_add _) (fun v9 M15 H locs hP S hk => ?_) (fun E q ce M9 H9 locs9 hX => hX.elim)
      obtain ⟨v16, rfl, h⟩ := hP
      refine W.eq (g2 := F0 m 68 ls [.int v16]) rfl ?_
      exact mm_zret C S hr (Nat.le_trans (Nat.le_add_right _ _) hk) dX4_isRoute_68 h
    · have h := h.2 c9
      refine lv_aload_n hx hb dX4_isRoute_26 rfl (lv_at hl 0 rfl) ?_
      refine lv_iconst (v := 1) hx hb dX4_isRoute_27 (by decide) ?_
      obtain ⟨hI, h⟩ := h
      refine mm_V (As := [.int 1]) (rest := []) C S hl.1 (wk_X4_wrong hst0 h) (T := TX4) rfl hI (lw_V q1913 q1915 qs30 q58 q1916) rfl pd_X4_wrong ⟨Nat.le_of_ble_eq_true rfl, Nat.le_of_ble_eq_true rfl⟩ rfl rfl (Nat.le_of_ble_eq_true rfl) dX4_isRoute_28 rfl rfl hk (Nat.zero_add _) (fun v9 M17 H locs hP S hk => ?_) (fun E q ce M9 H9 locs9 hX => hX.elim)
      obtain ⟨v18, rfl, h⟩ := hP
      refine W.eq (g2 := F0 m 31 ls [.int v18]) rfl ?_
      exact mm_zret C S hr (Nat.le_trans (Nat.le_add_right _ _) hk) dX4_isRoute_31 h
  · have h := h.2 c9
    refine lv_iconst (v := 0) hx hb dX4_isRoute_13 (by decide) ?_
    exact mm_zret C S hr (Nat.le_trans (Nat.le_add_right _ _) hk) dX4_isRoute_14 h
/-! X4_level: level 12 -/
def wb_X4_level_23 (G : mG) (P : Int32 → mM → Prop) (r : Nat) (M : mM) (s0 : Int32) : Prop :=
  P s0 M
def wp_X4_level (G : mG) (b : Nat) (P : Int32 → mM → Prop) (M : mM) (a0 : Nat) (x1 : Int32) : Prop :=
  wp_X4_noPond G 0 (fun v2 M1 => isc M1 a0 3 ∧ (wp_X4_fails G 0 (fun v4 M3 => (v4 = 0 → gfa M3 a0 3 8 fun u5 => ldi M3 0 u5 x1 fun v6 => wb_X4_level_23 G P b M3 v6) ∧ (¬ v4 = 0 → wb_X4_level_23 G P b M3 0)) M1 a0 v2 0 0)) M x1
set_option maxHeartbeats 4000000 in
set_option maxRecDepth 100000 in
theorem wk_X4_level {l : Launch} (hst0 : l.stackTraces = false) {G : mG} {b : Nat} {P : Int32 → mM → Prop} {M : mM} {a0 : Nat} {x1 : Int32} (h : wp_X4_level G b P M a0 x1) : mMet l yX4_level (ws_ yX4_level cX4_level 2 (Option.some Jvm.ClassFile.FieldType.int)) 12 b G [.ref a0, .int x1] M (mRi P) (fun _ _ _ => False) := by
  refine mm_met hst0 (by decide) (Nat.le_of_ble_eq_true rfl) ?_
  intro p e s m args below meth c ls C hr hnt hnm hl S
  have hl : lv_has ls 2 [(0, .ref a0), (1, .int x1)] := hl
  generalize mA M s.heap.size = A at C S ⊢
  have hx := C.hx
  have hb := C.hb
  have hk : 0 + b ≤ b := Nat.le_of_eq (Nat.zero_add b)
  have j23 : ∀ (k r : Nat) (M : mM) (H : Heap) (locs : List Loc) (ls : Array Slot) (s0 : Int32), k + r ≤ b → mW G A s M H locs → lv_has ls 2 [] → wb_X4_level_23 G P r M s0 → W p l e (mRm 12 b) s m args below meth c H locs k k (vx_MQ below (mQ G A (mRi P)) (mXC G A (fun _ _ _ => False)) args s b b A) (F0 m 23 ls [.int s0]) := by
    intro k r M H locs ls s0 hk S hl h
    unfold wb_X4_level_23 at h
    exact mm_iret C S hr (Nat.le_trans (Nat.le_add_right _ _) hk) dX4_level_23 h
  unfold wp_X4_level at h
  refine lv_aload_n hx hb dX4_level_0 rfl (lv_at hl 0 rfl) ?_
  refine lv_iload_n hx hb dX4_level_1 rfl (lv_at hl 1 rfl) ?_
  refine mm_S (As := [.int x1]) (rest := [.ref a0]) C S hl.1 (wk_X4_noPond hst0 h) (lw_S q1833 q1834 q58 q1835) pd_X4_noPond ⟨Nat.le_of_ble_eq_true rfl, Nat.le_of_ble_eq_true rfl⟩ rfl rfl (Nat.le_of_ble_eq_true rfl) dX4_level_2 rfl rfl hk (Nat.zero_add _) (fun v9 M1 H locs hP S hk => ?_) (fun E q ce M9 H9 locs9 hX => hX.elim)
  obtain ⟨v2, rfl, h⟩ := hP
  refine W.eq (g2 := F0 m 5 ls [.int v2, .ref a0]) rfl ?_
  refine lv_iconst (v := 0) hx hb dX4_level_5 (by decide) ?_
  refine lv_iconst (v := 0) hx hb dX4_level_6 (by decide) ?_
  obtain ⟨hI, h⟩ := h
  refine mm_V (As := [.int v2, .int 0, .int 0]) (rest := []) C S hl.1 (wk_X4_fails hst0 h) (T := TX4) rfl hI (lw_V q1836 q1838 qs22 q58 q1839) rfl pd_X4_fails ⟨Nat.le_of_ble_eq_true rfl, Nat.le_of_ble_eq_true rfl⟩ rfl rfl (Nat.le_of_ble_eq_true rfl) dX4_level_7 rfl rfl hk (Nat.zero_add _) (fun v9 M3 H locs hP S hk => ?_) (fun E q ce M9 H9 locs9 hX => hX.elim)
  obtain ⟨v4, rfl, h⟩ := hP
  refine W.eq (g2 := F0 m 10 ls [.int v4]) rfl ?_
  refine lv_if_eq (tgt := 17) hx hb dX4_level_10 (by decide) (fun c9 => ?_) (fun c9 => ?_)
  · have h := h.1 c9
    refine lv_aload_n hx hb dX4_level_17 rfl (lv_at hl 0 rfl) ?_
    refine mm_gfa C S (ci := 3) (k := 8) rfl in_X4 (by decide) q1678 (fun _ h9 => h9) dX4_level_18 h (fun u5 h => ?_)
    refine lv_iload_n hx hb dX4_level_21 rfl (lv_at hl 1 rfl) ?_
    refine mm_iald C S h dX4_level_22 (fun v6 h => ?_)
    exact j23 _ _ _ _ _ _ _ hk S (lv_sub hl [] rfl) h
  · have h := h.2 c9
    refine lv_iconst (v := 0) hx hb dX4_level_13 (by decide) ?_
    refine lv_goto (tgt := 23) hx hb dX4_level_14 (by decide) ?_
    exact j23 _ _ _ _ _ _ _ hk S (lv_sub hl [] rfl) h
/-! X4_looks: level 11 -/
def wb_X4_looks_44 (G : mG) (P : Int32 → mM → Prop) (r : Nat) (M : mM) (s0 : Int32) : Prop :=
  P s0 M
def wb_X4_looks_24 (G : mG) (P : Int32 → mM → Prop) (r : Nat) (M : mM) (a0 : Nat) (x1 : Int32) (x2 : Int32) (s0 : Nat) (s1 : Int32) : Prop :=
  isc M s0 3 ∧ (wp_X4_fails G 0 (fun v6 M5 => (v6 = 0 → gfa M5 a0 3 43 fun u7 => lda M5 8 u7 x1 fun u8 => ldi M5 0 u8 x2 fun v9 => wb_X4_looks_44 G P r M5 v9) ∧ (¬ v6 = 0 → wb_X4_looks_44 G P r M5 0)) M s0 s1 0 0)
def wb_X4_looks_19 (G : mG) (P : Int32 → mM → Prop) (r : Nat) (M : mM) (a0 : Nat) (x1 : Int32) (x2 : Int32) (s0 : Nat) : Prop :=
  wb_X4_looks_24 G P r M a0 x1 x2 s0 1
def wp_X4_looks (G : mG) (b : Nat) (P : Int32 → mM → Prop) (M : mM) (a0 : Nat) (x1 : Int32) (x2 : Int32) : Prop :=
  wp_X4_isIn G 0 (fun v2 M1 => (v2 = 0 → wb_X4_looks_19 G P b M1 a0 x1 x2 a0) ∧ (¬ v2 = 0 → wp_X4_isIn G 0 (fun v4 M3 => (¬ v4 = 0 → wb_X4_looks_24 G P b M3 a0 x1 x2 a0 0) ∧ (v4 = 0 → wb_X4_looks_19 G P b M3 a0 x1 x2 a0)) M1 x2 0 3)) M x1 0 2
set_option maxHeartbeats 4000000 in
set_option maxRecDepth 100000 in
theorem wk_X4_looks {l : Launch} (hst0 : l.stackTraces = false) {G : mG} {b : Nat} {P : Int32 → mM → Prop} {M : mM} {a0 : Nat} {x1 : Int32} {x2 : Int32} (h : wp_X4_looks G b P M a0 x1 x2) : mMet l yX4_looks (ws_ yX4_looks cX4_looks 3 (Option.some Jvm.ClassFile.FieldType.int)) 11 b G [.ref a0, .int x1, .int x2] M (mRi P) (fun _ _ _ => False) := by
  refine mm_met hst0 (by decide) (Nat.le_of_ble_eq_true rfl) ?_
  intro p e s m args below meth c ls C hr hnt hnm hl S
  have hl : lv_has ls 3 [(0, .ref a0), (1, .int x1), (2, .int x2)] := hl
  generalize mA M s.heap.size = A at C S ⊢
  have hx := C.hx
  have hb := C.hb
  have hk : 0 + b ≤ b := Nat.le_of_eq (Nat.zero_add b)
  have j44 : ∀ (k r : Nat) (M : mM) (H : Heap) (locs : List Loc) (ls : Array Slot) (s0 : Int32), k + r ≤ b → mW G A s M H locs → lv_has ls 3 [] → wb_X4_looks_44 G P r M s0 → W p l e (mRm 11 b) s m args below meth c H locs k k (vx_MQ below (mQ G A (mRi P)) (mXC G A (fun _ _ _ => False)) args s b b A) (F0 m 44 ls [.int s0]) := by
    intro k r M H locs ls s0 hk S hl h
    unfold wb_X4_looks_44 at h
    exact mm_iret C S hr (Nat.le_trans (Nat.le_add_right _ _) hk) dX4_looks_44 h
  have j24 : ∀ (k r : Nat) (M : mM) (H : Heap) (locs : List Loc) (ls : Array Slot) (a0 : Nat) (x1 : Int32) (x2 : Int32) (s0 : Nat) (s1 : Int32), k + r ≤ b → mW G A s M H locs → lv_has ls 3 [(0, .ref a0), (1, .int x1), (2, .int x2)] → wb_X4_looks_24 G P r M a0 x1 x2 s0 s1 → W p l e (mRm 11 b) s m args below meth c H locs k k (vx_MQ below (mQ G A (mRi P)) (mXC G A (fun _ _ _ => False)) args s b b A) (F0 m 24 ls [.int s1, .ref s0]) := by
    intro k r M H locs ls a0 x1 x2 s0 s1 hk S hl h
    unfold wb_X4_looks_24 at h
    refine lv_iconst (v := 0) hx hb dX4_looks_24 (by decide) ?_
    refine lv_iconst (v := 0) hx hb dX4_looks_25 (by decide) ?_
    obtain ⟨hI, h⟩ := h
    refine mm_V (As := [.int s1, .int 0, .int 0]) (rest := []) C S hl.1 (wk_X4_fails hst0 h) (T := TX4) rfl hI (lw_V q1836 q1838 qs22 q58 q1839) rfl pd_X4_fails ⟨Nat.le_of_ble_eq_true rfl, Nat.le_of_ble_eq_true rfl⟩ rfl rfl (Nat.le_of_ble_eq_true rfl) dX4_looks_26 rfl rfl hk (Nat.zero_add _) (fun v9 M5 H locs hP S hk => ?_) (fun E q ce M9 H9 locs9 hX => hX.elim)
    obtain ⟨v6, rfl, h⟩ := hP
    refine W.eq (g2 := F0 m 29 ls [.int v6]) rfl ?_
    refine lv_if_eq (tgt := 36) hx hb dX4_looks_29 (by decide) (fun c9 => ?_) (fun c9 => ?_)
    · have h := h.1 c9
      refine lv_aload_n hx hb dX4_looks_36 rfl (lv_at hl 0 rfl) ?_
      refine mm_gfa C S (ci := 3) (k := 43) rfl in_X4 (by decide) q1713 (fun _ h9 => h9) dX4_looks_37 h (fun u7 h => ?_)
      refine lv_iload_n hx hb dX4_looks_40 rfl (lv_at hl 1 rfl) ?_
      refine mm_aald C S (t := 8) rfl rfl h dX4_looks_41 (fun u8 h => ?_)
      refine lv_iload_n hx hb dX4_looks_42 rfl (lv_at hl 2 rfl) ?_
      refine mm_iald C S h dX4_looks_43 (fun v9 h => ?_)
      exact j44 _ _ _ _ _ _ _ hk S (lv_sub hl [] rfl) h
    · have h := h.2 c9
      refine lv_iconst (v := 0) hx hb dX4_looks_32 (by decide) ?_
      refine lv_goto (tgt := 44) hx hb dX4_looks_33 (by decide) ?_
      exact j44 _ _ _ _ _ _ _ hk S (lv_sub hl [] rfl) h
  have j19 : ∀ (k r : Nat) (M : mM) (H : Heap) (locs : List Loc) (ls : Array Slot) (a0 : Nat) (x1 : Int32) (x2 : Int32) (s0 : Nat), k + r ≤ b → mW G A s M H locs → lv_has ls 3 [(0, .ref a0), (1, .int x1), (2, .int x2)] → wb_X4_looks_19 G P r M a0 x1 x2 s0 → W p l e (mRm 11 b) s m args below meth c H locs k k (vx_MQ below (mQ G A (mRi P)) (mXC G A (fun _ _ _ => False)) args s b b A) (F0 m 19 ls [.ref s0]) := by
    intro k r M H locs ls a0 x1 x2 s0 hk S hl h
    unfold wb_X4_looks_19 at h
    refine lv_iconst (v := 1) hx hb dX4_looks_19 (by decide) ?_
    refine lv_goto (tgt := 24) hx hb dX4_looks_20 (by decide) ?_
    exact j24 _ _ _ _ _ _ _ _ _ _ _ hk S hl h
  unfold wp_X4_looks at h
  refine lv_aload_n hx hb dX4_looks_0 rfl (lv_at hl 0 rfl) ?_
  refine lv_iload_n hx hb dX4_looks_1 rfl (lv_at hl 1 rfl) ?_
  refine lv_iconst (v := 0) hx hb dX4_looks_2 (by decide) ?_
  refine lv_iconst (v := 2) hx hb dX4_looks_3 (by decide) ?_
  refine mm_S (As := [.int x1, .int 0, .int 2]) (rest := [.ref a0]) C S hl.1 (wk_X4_isIn hst0 h) (lw_S q1830 q1831 q58 q1832) pd_X4_isIn ⟨Nat.le_of_ble_eq_true rfl, Nat.le_of_ble_eq_true rfl⟩ rfl rfl (Nat.le_of_ble_eq_true rfl) dX4_looks_4 rfl rfl hk (Nat.zero_add _) (fun v9 M1 H locs hP S hk => ?_) (fun E q ce M9 H9 locs9 hX => hX.elim)
  obtain ⟨v2, rfl, h⟩ := hP
  refine W.eq (g2 := F0 m 7 ls [.int v2, .ref a0]) rfl ?_
  refine lv_if_eq (tgt := 19) hx hb dX4_looks_7 (by decide) (fun c9 => ?_) (fun c9 => ?_)
  · have h := h.1 c9
    exact j19 _ _ _ _ _ _ _ _ _ _ hk S hl h
  · have h := h.2 c9
    refine lv_iload_n hx hb dX4_looks_10 rfl (lv_at hl 2 rfl) ?_
    refine lv_iconst (v := 0) hx hb dX4_looks_11 (by decide) ?_
    refine lv_iconst (v := 3) hx hb dX4_looks_12 (by decide) ?_
    refine mm_S (As := [.int x2, .int 0, .int 3]) (rest := [.ref a0]) C S hl.1 (wk_X4_isIn hst0 h) (lw_S q1830 q1831 q58 q1832) pd_X4_isIn ⟨Nat.le_of_ble_eq_true rfl, Nat.le_of_ble_eq_true rfl⟩ rfl rfl (Nat.le_of_ble_eq_true rfl) dX4_looks_13 rfl rfl hk (Nat.zero_add _) (fun v9 M3 H locs hP S hk => ?_) (fun E q ce M9 H9 locs9 hX => hX.elim)
    obtain ⟨v4, rfl, h⟩ := hP
    refine W.eq (g2 := F0 m 16 ls [.int v4, .ref a0]) rfl ?_
    refine lv_if_ne (tgt := 23) hx hb dX4_looks_16 (by decide) (fun c9 => ?_) (fun c9 => ?_)
    · have h := h.1 c9
      refine lv_iconst (v := 0) hx hb dX4_looks_23 (by decide) ?_
      exact j24 _ _ _ _ _ _ _ _ _ _ _ hk S hl h
    · have h := h.2 c9
      exact j19 _ _ _ _ _ _ _ _ _ _ hk S hl h
/-! X4_meanDoubt: level 12 -/
def wl_X4_meanDoubt_13 (G : mG) (P : UInt64 → mM → Prop) (K4 : Nat → mM → Nat → Int64 → Int32 → Prop) : Nat → Nat → mM → Nat → Int64 → Int32 → Int32 → Prop
  | 0, _, _, _, _, _, _ => False
  | n + 1, r, M, a0, y1, x3, x4 => (4 ≤ x4 → K4 r M a0 y1 (x3 + 1)) ∧ (¬ 4 ≤ x4 → isc M a0 3 ∧ (wp_X4_doubt G 0 (fun v3 M2 => (wl_X4_meanDoubt_13 G P K4 n) r M2 a0 (y1 + v3.toInt64) x3 (x4 + 1)) M a0 x3 x4))
def wl_X4_meanDoubt_4 (G : mG) (P : UInt64 → mM → Prop) : Nat → Nat → mM → Nat → Int64 → Int32 → Prop
  | 0, _, _, _, _, _ => False
  | n + 1, r, M, a0, y1, x3 => (36 ≤ x3 → pfi M a0 3 0 0 fun M1 => vf_n64 (FP.ddiv (FP.l2d y1) (4639270566145032192 : UInt64)) ∧ (P (FP.ddiv (FP.l2d y1) (4639270566145032192 : UInt64)) M1)) ∧ (¬ 36 ≤ x3 → ∃ n13, wl_X4_meanDoubt_13 G P (wl_X4_meanDoubt_4 G P n) n13 r M a0 y1 x3 0)
def wp_X4_meanDoubt (G : mG) (b : Nat) (P : UInt64 → mM → Prop) (M : mM) (a0 : Nat) : Prop :=
  ∃ n4, wl_X4_meanDoubt_4 G P n4 b M a0 0 0
set_option maxHeartbeats 4000000 in
set_option maxRecDepth 100000 in
theorem wk_X4_meanDoubt {l : Launch} (hst0 : l.stackTraces = false) {G : mG} {b : Nat} {P : UInt64 → mM → Prop} {M : mM} {a0 : Nat} (h : wp_X4_meanDoubt G b P M a0) : mMet l yX4_meanDoubt (ws_ yX4_meanDoubt cX4_meanDoubt 5 (Option.some Jvm.ClassFile.FieldType.double)) 12 b G [.ref a0] M (mRd P) (fun _ _ _ => False) := by
  refine mm_met hst0 (by decide) (Nat.le_of_ble_eq_true rfl) ?_
  intro p e s m args below meth c ls C hr hnt hnm hl S
  have hl : lv_has ls 5 [(0, .ref a0)] := hl
  generalize mA M s.heap.size = A at C S ⊢
  have hx := C.hx
  have hb := C.hb
  have hk : 0 + b ≤ b := Nat.le_of_eq (Nat.zero_add b)
  have j4 : ∀ (nf : Nat) (k r : Nat) (M : mM) (H : Heap) (locs : List Loc) (ls : Array Slot) (a0 : Nat) (y1 : Int64) (x3 : Int32), k + r ≤ b → mW G A s M H locs → lv_has ls 5 [(0, .ref a0), (1, .long y1), (3, .int x3)] → wl_X4_meanDoubt_4 G P nf r M a0 y1 x3 → W p l e (mRm 12 b) s m args below meth c H locs k k (vx_MQ below (mQ G A (mRd P)) (mXC G A (fun _ _ _ => False)) args s b b A) (F0 m 4 ls []) := by
    intro nf
    induction nf with
    | zero =>
      intro k r M H locs ls a0 y1 x3 hk S hl h
      rw [wl_X4_meanDoubt_4] at h
      exact h.elim
    | succ n4 ih4 =>
      have j13 : ∀ (nf : Nat) (k r : Nat) (M : mM) (H : Heap) (locs : List Loc) (ls : Array Slot) (a0 : Nat) (y1 : Int64) (x3 : Int32) (x4 : Int32), k + r ≤ b → mW G A s M H locs → lv_has ls 5 [(0, .ref a0), (1, .long y1), (3, .int x3), (4, .int x4)] → wl_X4_meanDoubt_13 G P (wl_X4_meanDoubt_4 G P n4) nf r M a0 y1 x3 x4 → W p l e (mRm 12 b) s m args below meth c H locs k k (vx_MQ below (mQ G A (mRd P)) (mXC G A (fun _ _ _ => False)) args s b b A) (F0 m 13 ls []) := by
        intro nf
        induction nf with
        | zero =>
          intro k r M H locs ls a0 y1 x3 x4 hk S hl h
          rw [wl_X4_meanDoubt_13] at h
          exact h.elim
        | succ n13 ih13 =>
          intro k r M H locs ls a0 y1 x3 x4 hk S hl h
          rw [wl_X4_meanDoubt_13] at h
          refine lv_iload hx hb dX4_meanDoubt_13 (lv_at hl 3 rfl) ?_
          refine lv_iconst (v := 4) hx hb dX4_meanDoubt_15 (by decide) ?_
          refine lv_icmp_ge (tgt := 36) hx hb dX4_meanDoubt_16 (by decide) (fun c9 => ?_) (fun c9 => ?_)
          · have h := h.1 c9
            refine lv_iinc (v := (x3 + 1)) (lv' := [(3, .int (x3 + 1)), (0, .ref a0), (1, .long y1), (4, .int x4)]) hx hb dX4_meanDoubt_36 hl (k := 2) rfl rfl (by decide) rfl (fun ls hl => ?_)
            refine lv_goto (tgt := 4) hx hb dX4_meanDoubt_39 (by decide) ?_
            exact ih4 _ _ _ _ _ _ _ _ _ hk S (lv_sub hl [1, 2, 0] rfl) h
          · have h := h.2 c9
            refine lv_lload_n hx hb dX4_meanDoubt_19 rfl (lv_at hl 1 rfl) ?_
            refine lv_aload_n hx hb dX4_meanDoubt_20 rfl (lv_at hl 0 rfl) ?_
            refine lv_iload_n hx hb dX4_meanDoubt_21 rfl (lv_at hl 2 rfl) ?_
            refine lv_iload hx hb dX4_meanDoubt_22 (lv_at hl 3 rfl) ?_
            obtain ⟨hI, h⟩ := h
            refine mm_V (As := [.int x3, .int x4]) (rest := [.long y1]) C S hl.1 (wk_X4_doubt hst0 h) (T := TX4) rfl hI (lw_V q1969 q1971 qs38 q58 q1972) rfl pd_X4_doubt ⟨Nat.le_of_ble_eq_true rfl, Nat.le_of_ble_eq_true rfl⟩ rfl rfl (Nat.le_of_ble_eq_true rfl) dX4_meanDoubt_24 rfl rfl hk (Nat.zero_add _) (fun v9 M2 H locs hP S hk => ?_) (fun E q ce M9 H9 locs9 hX => hX.elim)
            obtain ⟨v3, rfl, h⟩ := hP
            refine W.eq (g2 := F0 m 27 ls [.int v3, .long y1]) rfl ?_
            refine lv_i2l hx hb dX4_meanDoubt_27 rfl ?_
            refine lv_ladd hx hb dX4_meanDoubt_28 ?_
            refine lv_lstore_n (lv' := [(1, .long (y1 + v3.toInt64)), (0, .ref a0), (3, .int x3), (4, .int x4)]) hx hb dX4_meanDoubt_29 rfl hl (by decide) rfl (fun ls hl => ?_)
            refine lv_iinc (v := (x4 + 1)) (lv' := [(4, .int (x4 + 1)), (1, .long (y1 + v3.toInt64)), (0, .ref a0), (3, .int x3)]) hx hb dX4_meanDoubt_30 hl (k := 3) rfl rfl (by decide) rfl (fun ls hl => ?_)
            refine lv_goto (tgt := 13) hx hb dX4_meanDoubt_33 (by decide) ?_
            exact ih13 _ _ _ _ _ _ _ _ _ _ hk S (lv_sub hl [2, 1, 3, 0] rfl) h
      intro k r M H locs ls a0 y1 x3 hk S hl h
      rw [wl_X4_meanDoubt_4] at h
      refine lv_iload_n hx hb dX4_meanDoubt_4 rfl (lv_at hl 2 rfl) ?_
      refine lv_bipush (v := 36) hx hb dX4_meanDoubt_5 (by decide) ?_
      refine lv_icmp_ge (tgt := 42) hx hb dX4_meanDoubt_7 (by decide) (fun c9 => ?_) (fun c9 => ?_)
      · have h := h.1 c9
        refine lv_aload_n hx hb dX4_meanDoubt_42 rfl (lv_at hl 0 rfl) ?_
        refine lv_iconst (v := 0) hx hb dX4_meanDoubt_43 (by decide) ?_
        refine mm_pfi C S (ci := 3) (k := 0) rfl in_X4 tyX4_ok nmX4 (by decide) q1670 (fun _ h9 => h9) rfl dX4_meanDoubt_44 rfl h (fun M1 H locs h S => ?_)
        refine lv_lload_n hx hb dX4_meanDoubt_47 rfl (lv_at hl 1 rfl) ?_
        refine lv_l2d hx hb dX4_meanDoubt_48 ?_
        refine lv_ldc2d hx hb C.hown (C.ts _ q2065) dX4_meanDoubt_49 ?_
        refine lv_ddiv hx hb dX4_meanDoubt_52 h.1 ?_
        have h := h.2
        exact mm_dret C S hr (Nat.le_trans (Nat.le_add_right _ _) hk) dX4_meanDoubt_53 h
      · have h := h.2 c9
        refine lv_iconst (v := 0) hx hb dX4_meanDoubt_10 (by decide) ?_
        refine lv_istore (lv' := [(4, .int 0), (0, .ref a0), (1, .long y1), (3, .int x3)]) hx hb dX4_meanDoubt_11 hl (by decide) rfl (fun ls hl => ?_)
        obtain ⟨nf, h⟩ := h
        exact j13 nf _ _ _ _ _ _ _ _ _ _ hk S (lv_sub hl [1, 2, 3, 0] rfl) h
  unfold wp_X4_meanDoubt at h
  refine lv_lconst (v := 0) hx hb dX4_meanDoubt_0 (by decide) ?_
  refine lv_lstore_n (lv' := [(1, .long 0), (0, .ref a0)]) hx hb dX4_meanDoubt_1 rfl hl (by decide) rfl (fun ls hl => ?_)
  refine lv_iconst (v := 0) hx hb dX4_meanDoubt_2 (by decide) ?_
  refine lv_istore_n (lv' := [(3, .int 0), (1, .long 0), (0, .ref a0)]) hx hb dX4_meanDoubt_3 rfl hl (by decide) rfl (fun ls hl => ?_)
  obtain ⟨nf, h⟩ := h
  exact j4 nf _ _ _ _ _ _ _ _ _ hk S (lv_sub hl [2, 1, 0] rfl) h
/-! X4_worthOf: level 12 -/
def wb_X4_worthOf_59 (G : mG) (P : Int64 → mM → Prop) (K5 : Nat → mM → Nat → Int32 → Int64 → Int32 → Prop) (r : Nat) (M : mM) (a0 : Nat) (x1 : Int32) (y2 : Int64) (x4 : Int32) : Prop :=
  K5 r M a0 x1 y2 (x4 + 1)
def wl_X4_worthOf_26 (G : mG) (P : Int64 → mM → Prop) (K5 : Nat → mM → Nat → Int32 → Int64 → Int32 → Prop) : Nat → Nat → mM → Nat → Int32 → Int64 → Int32 → Int32 → Prop
  | 0, _, _, _, _, _, _, _ => False
  | n + 1, r, M, a0, x1, y2, x4, x5 => (4 ≤ x5 → wb_X4_worthOf_59 G P K5 r M a0 x1 y2 x4) ∧ (¬ 4 ≤ x5 → gfa M a0 3 12 fun u3 => ldi M 0 u3 x5 fun v4 => isc M a0 3 ∧ (wp_X4_doubt G 0 (fun v6 M5 => ∀ g7 : Int64, g7 = (v4.toInt64 * v6.toInt64) → (wl_X4_worthOf_26 G P K5 n) r M5 a0 x1 (y2 + g7) x4 (x5 + 1)) M a0 x4 x5))
def wl_X4_worthOf_5 (G : mG) (P : Int64 → mM → Prop) : Nat → Nat → mM → Nat → Int32 → Int64 → Int32 → Prop
  | 0, _, _, _, _, _, _ => False
  | n + 1, r, M, a0, x1, y2, x4 => (36 ≤ x4 → P y2 M) ∧ (¬ 36 ≤ x4 → isc M a0 3 ∧ (wp_X4_far G 0 (fun v2 M1 => (1 < v2 → wb_X4_worthOf_59 G P (wl_X4_worthOf_5 G P n) r M1 a0 x1 y2 x4) ∧ (¬ 1 < v2 → ∃ n26, wl_X4_worthOf_26 G P (wl_X4_worthOf_5 G P n) n26 r M1 a0 x1 y2 x4 0)) M a0 x1 x4))
def wp_X4_worthOf (G : mG) (b : Nat) (P : Int64 → mM → Prop) (M : mM) (a0 : Nat) (x1 : Int32) : Prop :=
  ∃ n5, wl_X4_worthOf_5 G P n5 b M a0 x1 0 0
set_option maxHeartbeats 4000000 in
set_option maxRecDepth 100000 in
theorem wk_X4_worthOf {l : Launch} (hst0 : l.stackTraces = false) {G : mG} {b : Nat} {P : Int64 → mM → Prop} {M : mM} {a0 : Nat} {x1 : Int32} (h : wp_X4_worthOf G b P M a0 x1) : mMet l yX4_worthOf (ws_ yX4_worthOf cX4_worthOf 6 (Option.some Jvm.ClassFile.FieldType.long)) 12 b G [.ref a0, .int x1] M (mRl P) (fun _ _ _ => False) := by
  refine mm_met hst0 (by decide) (Nat.le_of_ble_eq_true rfl) ?_
  intro p e s m args below meth c ls C hr hnt hnm hl S
  have hl : lv_has ls 6 [(0, .ref a0), (1, .int x1)] := hl
  generalize mA M s.heap.size = A at C S ⊢
  have hx := C.hx
  have hb := C.hb
  have hk : 0 + b ≤ b := Nat.le_of_eq (Nat.zero_add b)
  have j5 : ∀ (nf : Nat) (k r : Nat) (M : mM) (H : Heap) (locs : List Loc) (ls : Array Slot) (a0 : Nat) (x1 : Int32) (y2 : Int64) (x4 : Int32), k + r ≤ b → mW G A s M H locs → lv_has ls 6 [(0, .ref a0), (1, .int x1), (2, .long y2), (4, .int x4)] → wl_X4_worthOf_5 G P nf r M a0 x1 y2 x4 → W p l e (mRm 12 b) s m args below meth c H locs k k (vx_MQ below (mQ G A (mRl P)) (mXC G A (fun _ _ _ => False)) args s b b A) (F0 m 5 ls []) := by
    intro nf
    induction nf with
    | zero =>
      intro k r M H locs ls a0 x1 y2 x4 hk S hl h
      rw [wl_X4_worthOf_5] at h
      exact h.elim
    | succ n5 ih5 =>
      have j59 : ∀ (k r : Nat) (M : mM) (H : Heap) (locs : List Loc) (ls : Array Slot) (a0 : Nat) (x1 : Int32) (y2 : Int64) (x4 : Int32), k + r ≤ b → mW G A s M H locs → lv_has ls 6 [(0, .ref a0), (1, .int x1), (2, .long y2), (4, .int x4)] → wb_X4_worthOf_59 G P (wl_X4_worthOf_5 G P n5) r M a0 x1 y2 x4 → W p l e (mRm 12 b) s m args below meth c H locs k k (vx_MQ below (mQ G A (mRl P)) (mXC G A (fun _ _ _ => False)) args s b b A) (F0 m 59 ls []) := by
        intro k r M H locs ls a0 x1 y2 x4 hk S hl h
        unfold wb_X4_worthOf_59 at h
        refine lv_iinc (v := (x4 + 1)) (lv' := [(4, .int (x4 + 1)), (0, .ref a0), (1, .int x1), (2, .long y2)]) hx hb dX4_worthOf_59 hl (k := 3) rfl rfl (by decide) rfl (fun ls hl => ?_)
        refine lv_goto (tgt := 5) hx hb dX4_worthOf_62 (by decide) ?_
        exact ih5 _ _ _ _ _ _ _ _ _ _ hk S (lv_sub hl [1, 2, 3, 0] rfl) h
      have j26 : ∀ (nf : Nat) (k r : Nat) (M : mM) (H : Heap) (locs : List Loc) (ls : Array Slot) (a0 : Nat) (x1 : Int32) (y2 : Int64) (x4 : Int32) (x5 : Int32), k + r ≤ b → mW G A s M H locs → lv_has ls 6 [(0, .ref a0), (1, .int x1), (2, .long y2), (4, .int x4), (5, .int x5)] → wl_X4_worthOf_26 G P (wl_X4_worthOf_5 G P n5) nf r M a0 x1 y2 x4 x5 → W p l e (mRm 12 b) s m args below meth c H locs k k (vx_MQ below (mQ G A (mRl P)) (mXC G A (fun _ _ _ => False)) args s b b A) (F0 m 26 ls []) := by
        intro nf
        induction nf with
        | zero =>
          intro k r M H locs ls a0 x1 y2 x4 x5 hk S hl h
          rw [wl_X4_worthOf_26] at h
          exact h.elim
        | succ n26 ih26 =>
          intro k r M H locs ls a0 x1 y2 x4 x5 hk S hl h
          rw [wl_X4_worthOf_26] at h
          refine lv_iload hx hb dX4_worthOf_26 (lv_at hl 4 rfl) ?_
          refine lv_iconst (v := 4) hx hb dX4_worthOf_28 (by decide) ?_
          refine lv_icmp_ge (tgt := 59) hx hb dX4_worthOf_29 (by decide) (fun c9 => ?_) (fun c9 => ?_)
          · have h := h.1 c9
            exact j59 _ _ _ _ _ _ _ _ _ _ hk S (lv_sub hl [0, 1, 2, 3] rfl) h
          · have h := h.2 c9
            refine lv_lload_n hx hb dX4_worthOf_32 rfl (lv_at hl 2 rfl) ?_
            refine lv_aload_n hx hb dX4_worthOf_33 rfl (lv_at hl 0 rfl) ?_
            refine mm_gfa C S (ci := 3) (k := 12) rfl in_X4 (by decide) q1682 (fun _ h9 => h9) dX4_worthOf_34 h (fun u3 h => ?_)
            refine lv_iload hx hb dX4_worthOf_37 (lv_at hl 4 rfl) ?_
            refine mm_iald C S h dX4_worthOf_39 (fun v4 h => ?_)
            refine lv_i2l hx hb dX4_worthOf_40 rfl ?_
            refine lv_aload_n hx hb dX4_worthOf_41 rfl (lv_at hl 0 rfl) ?_
            refine lv_iload hx hb dX4_worthOf_42 (lv_at hl 3 rfl) ?_
            refine lv_iload hx hb dX4_worthOf_44 (lv_at hl 4 rfl) ?_
            obtain ⟨hI, h⟩ := h
            refine mm_V (As := [.int x4, .int x5]) (rest := [.long v4.toInt64, .long y2]) C S hl.1 (wk_X4_doubt hst0 h) (T := TX4) rfl hI (lw_V q1969 q1971 qs38 q58 q1972) rfl pd_X4_doubt ⟨Nat.le_of_ble_eq_true rfl, Nat.le_of_ble_eq_true rfl⟩ rfl rfl (Nat.le_of_ble_eq_true rfl) dX4_worthOf_46 rfl rfl hk (Nat.zero_add _) (fun v9 M5 H locs hP S hk => ?_) (fun E q ce M9 H9 locs9 hX => hX.elim)
            obtain ⟨v6, rfl, h⟩ := hP
            refine W.eq (g2 := F0 m 49 ls [.int v6, .long v4.toInt64, .long y2]) rfl ?_
            refine lv_i2l hx hb dX4_worthOf_49 rfl ?_
            refine lv_lmul hx hb dX4_worthOf_50 ?_
            refine lv_topl (fun g7 eg7 => ?_)
            have h := h g7 eg7
            refine lv_ladd hx hb dX4_worthOf_51 ?_
            refine lv_lstore_n (lv' := [(2, .long (y2 + g7)), (0, .ref a0), (1, .int x1), (4, .int x4), (5, .int x5)]) hx hb dX4_worthOf_52 rfl hl (by decide) rfl (fun ls hl => ?_)
            refine lv_iinc (v := (x5 + 1)) (lv' := [(5, .int (x5 + 1)), (2, .long (y2 + g7)), (0, .ref a0), (1, .int x1), (4, .int x4)]) hx hb dX4_worthOf_53 hl (k := 4) rfl rfl (by decide) rfl (fun ls hl => ?_)
            refine lv_goto (tgt := 26) hx hb dX4_worthOf_56 (by decide) ?_
            exact ih26 _ _ _ _ _ _ _ _ _ _ _ hk S (lv_sub hl [2, 3, 1, 4, 0] rfl) h
      intro k r M H locs ls a0 x1 y2 x4 hk S hl h
      rw [wl_X4_worthOf_5] at h
      refine lv_iload hx hb dX4_worthOf_5 (lv_at hl 3 rfl) ?_
      refine lv_bipush (v := 36) hx hb dX4_worthOf_7 (by decide) ?_
      refine lv_icmp_ge (tgt := 65) hx hb dX4_worthOf_9 (by decide) (fun c9 => ?_) (fun c9 => ?_)
      · have h := h.1 c9
        refine lv_lload_n hx hb dX4_worthOf_65 rfl (lv_at hl 2 rfl) ?_
        exact mm_lret C S hr (Nat.le_trans (Nat.le_add_right _ _) hk) dX4_worthOf_66 h
      · have h := h.2 c9
        refine lv_aload_n hx hb dX4_worthOf_12 rfl (lv_at hl 0 rfl) ?_
        refine lv_iload_n hx hb dX4_worthOf_13 rfl (lv_at hl 1 rfl) ?_
        refine lv_iload hx hb dX4_worthOf_14 (lv_at hl 3 rfl) ?_
        obtain ⟨hI, h⟩ := h
        refine mm_V (As := [.int x1, .int x4]) (rest := []) C S hl.1 (wk_X4_far hst0 h) (T := TX4) rfl hI (lw_V q1961 q1963 qs37 q58 q1964) rfl pd_X4_far ⟨Nat.le_of_ble_eq_true rfl, Nat.le_of_ble_eq_true rfl⟩ rfl rfl (Nat.le_of_ble_eq_true rfl) dX4_worthOf_16 rfl rfl hk (Nat.zero_add _) (fun v9 M1 H locs hP S hk => ?_) (fun E q ce M9 H9 locs9 hX => hX.elim)
        obtain ⟨v2, rfl, h⟩ := hP
        refine W.eq (g2 := F0 m 19 ls [.int v2]) rfl ?_
        refine lv_iconst (v := 1) hx hb dX4_worthOf_19 (by decide) ?_
        refine lv_icmp_gt (tgt := 59) hx hb dX4_worthOf_20 (by decide) (fun c9 => ?_) (fun c9 => ?_)
        · have h := h.1 c9
          exact j59 _ _ _ _ _ _ _ _ _ _ hk S hl h
        · have h := h.2 c9
          refine lv_iconst (v := 0) hx hb dX4_worthOf_23 (by decide) ?_
          refine lv_istore (lv' := [(5, .int 0), (0, .ref a0), (1, .int x1), (2, .long y2), (4, .int x4)]) hx hb dX4_worthOf_24 hl (by decide) rfl (fun ls hl => ?_)
          obtain ⟨nf, h⟩ := h
          exact j26 nf _ _ _ _ _ _ _ _ _ _ _ hk S (lv_sub hl [1, 2, 3, 4, 0] rfl) h
  unfold wp_X4_worthOf at h
  refine lv_lconst (v := 0) hx hb dX4_worthOf_0 (by decide) ?_
  refine lv_lstore_n (lv' := [(2, .long 0), (0, .ref a0), (1, .int x1)]) hx hb dX4_worthOf_1 rfl hl (by decide) rfl (fun ls hl => ?_)
  refine lv_iconst (v := 0) hx hb dX4_worthOf_2 (by decide) ?_
  refine lv_istore (lv' := [(4, .int 0), (2, .long 0), (0, .ref a0), (1, .int x1)]) hx hb dX4_worthOf_3 hl (by decide) rfl (fun ls hl => ?_)
  obtain ⟨nf, h⟩ := h
  exact j5 nf _ _ _ _ _ _ _ _ _ _ hk S (lv_sub hl [2, 3, 1, 0] rfl) h
/-! X4_nextRoute: level 13 -/
def wb_X4_nextRoute_33 (G : mG) (P : Int32 → mM → Prop) (K4 : Nat → mM → Nat → Int32 → Int32 → Prop) (r : Nat) (M : mM) (a0 : Nat) (x1 : Int32) (x2 : Int32) : Prop :=
  K4 r M a0 x1 (x2 + 1)
def wb_X4_nextRoute_31 (G : mG) (P : Int32 → mM → Prop) (K4 : Nat → mM → Nat → Int32 → Int32 → Prop) (r : Nat) (M : mM) (a0 : Nat) (x2 : Int32) : Prop :=
  wb_X4_nextRoute_33 G P K4 r M a0 x2 x2
def wl_X4_nextRoute_4 (G : mG) (P : Int32 → mM → Prop) : Nat → Nat → mM → Nat → Int32 → Int32 → Prop
  | 0, _, _, _, _, _ => False
  | n + 1, r, M, a0, x1, x2 => gfi M a0 3 24 fun v1 => (v1 ≤ x2 → isc M a0 3 ∧ (wp_X4_answered G 0 (fun v3 M2 => P v3 M2) M a0 x1)) ∧ (¬ v1 ≤ x2 → (x1 = (-1) → wb_X4_nextRoute_31 G P (wl_X4_nextRoute_4 G P n) r M a0 x2) ∧ (¬ x1 = (-1) → isc M a0 3 ∧ (wp_X4_worthOf G 0 (fun g5 M4 => isc M4 a0 3 ∧ (wp_X4_worthOf G 0 (fun g7 M6 => ((lg_cmp g5 g7) ≤ 0 → wb_X4_nextRoute_33 G P (wl_X4_nextRoute_4 G P n) r M6 a0 x1 x2) ∧ (¬ (lg_cmp g5 g7) ≤ 0 → wb_X4_nextRoute_31 G P (wl_X4_nextRoute_4 G P n) r M6 a0 x2)) M4 a0 x1)) M a0 x2)))
def wp_X4_nextRoute (G : mG) (b : Nat) (P : Int32 → mM → Prop) (M : mM) (a0 : Nat) : Prop :=
  ∃ n4, wl_X4_nextRoute_4 G P n4 b M a0 (-1) 0
set_option maxHeartbeats 4000000 in
set_option maxRecDepth 100000 in
theorem wk_X4_nextRoute {l : Launch} (hst0 : l.stackTraces = false) {G : mG} {b : Nat} {P : Int32 → mM → Prop} {M : mM} {a0 : Nat} (h : wp_X4_nextRoute G b P M a0) : mMet l yX4_nextRoute (ws_ yX4_nextRoute cX4_nextRoute 3 (Option.some Jvm.ClassFile.FieldType.int)) 13 b G [.ref a0] M (mRi P) (fun _ _ _ => False) := by
  refine mm_met hst0 (by decide) (Nat.le_of_ble_eq_true rfl) ?_
  intro p e s m args below meth c ls C hr hnt hnm hl S
  have hl : lv_has ls 3 [(0, .ref a0)] := hl
  generalize mA M s.heap.size = A at C S ⊢
  have hx := C.hx
  have hb := C.hb
  have hk : 0 + b ≤ b := Nat.le_of_eq (Nat.zero_add b)
  have j4 : ∀ (nf : Nat) (k r : Nat) (M : mM) (H : Heap) (locs : List Loc) (ls : Array Slot) (a0 : Nat) (x1 : Int32) (x2 : Int32), k + r ≤ b → mW G A s M H locs → lv_has ls 3 [(0, .ref a0), (1, .int x1), (2, .int x2)] → wl_X4_nextRoute_4 G P nf r M a0 x1 x2 → W p l e (mRm 13 b) s m args below meth c H locs k k (vx_MQ below (mQ G A (mRi P)) (mXC G A (fun _ _ _ => False)) args s b b A) (F0 m 4 ls []) := by
    intro nf
    induction nf with
    | zero =>
      intro k r M H locs ls a0 x1 x2 hk S hl h
      rw [wl_X4_nextRoute_4] at h
      exact h.elim
    | succ n4 ih4 =>
      have j33 : ∀ (k r : Nat) (M : mM) (H : Heap) (locs : List Loc) (ls : Array Slot) (a0 : Nat) (x1 : Int32) (x2 : Int32), k + r ≤ b → mW G A s M H locs → lv_has ls 3 [(0, .ref a0), (1, .int x1), (2, .int x2)] → wb_X4_nextRoute_33 G P (wl_X4_nextRoute_4 G P n4) r M a0 x1 x2 → W p l e (mRm 13 b) s m args below meth c H locs k k (vx_MQ below (mQ G A (mRi P)) (mXC G A (fun _ _ _ => False)) args s b b A) (F0 m 33 ls []) := by
        intro k r M H locs ls a0 x1 x2 hk S hl h
        unfold wb_X4_nextRoute_33 at h
        refine lv_iinc (v := (x2 + 1)) (lv' := [(2, .int (x2 + 1)), (0, .ref a0), (1, .int x1)]) hx hb dX4_nextRoute_33 hl (k := 2) rfl rfl (by decide) rfl (fun ls hl => ?_)
        refine lv_goto (tgt := 4) hx hb dX4_nextRoute_36 (by decide) ?_
        exact ih4 _ _ _ _ _ _ _ _ _ hk S (lv_sub hl [1, 2, 0] rfl) h
      have j31 : ∀ (k r : Nat) (M : mM) (H : Heap) (locs : List Loc) (ls : Array Slot) (a0 : Nat) (x2 : Int32), k + r ≤ b → mW G A s M H locs → lv_has ls 3 [(0, .ref a0), (2, .int x2)] → wb_X4_nextRoute_31 G P (wl_X4_nextRoute_4 G P n4) r M a0 x2 → W p l e (mRm 13 b) s m args below meth c H locs k k (vx_MQ below (mQ G A (mRi P)) (mXC G A (fun _ _ _ => False)) args s b b A) (F0 m 31 ls []) := by
        intro k r M H locs ls a0 x2 hk S hl h
        unfold wb_X4_nextRoute_31 at h
        refine lv_iload_n hx hb dX4_nextRoute_31 rfl (lv_at hl 1 rfl) ?_
        refine lv_istore_n (lv' := [(1, .int x2), (0, .ref a0), (2, .int x2)]) hx hb dX4_nextRoute_32 rfl hl (by decide) rfl (fun ls hl => ?_)
        exact j33 _ _ _ _ _ _ _ _ _ hk S (lv_sub hl [1, 0, 2] rfl) h
      intro k r M H locs ls a0 x1 x2 hk S hl h
      rw [wl_X4_nextRoute_4] at h
      refine lv_iload_n hx hb dX4_nextRoute_4 rfl (lv_at hl 2 rfl) ?_
      refine lv_aload_n hx hb dX4_nextRoute_5 rfl (lv_at hl 0 rfl) ?_
      refine mm_gfi C S (ci := 3) (k := 24) rfl in_X4 (by decide) q1694 (fun _ h9 => h9) dX4_nextRoute_6 h (fun v1 h => ?_)
      refine lv_icmp_ge (tgt := 39) hx hb dX4_nextRoute_9 (by decide) (fun c9 => ?_) (fun c9 => ?_)
      · have h := h.1 c9
        refine lv_aload_n hx hb dX4_nextRoute_39 rfl (lv_at hl 0 rfl) ?_
        refine lv_iload_n hx hb dX4_nextRoute_40 rfl (lv_at hl 1 rfl) ?_
        obtain ⟨hI, h⟩ := h
        refine mm_V (As := [.int x1]) (rest := []) C S hl.1 (wk_X4_answered hst0 h) (T := TX4) rfl hI (lw_V q1933 q1935 qs34 q58 q1936) rfl pd_X4_answered ⟨Nat.le_of_ble_eq_true rfl, Nat.le_of_ble_eq_true rfl⟩ rfl rfl (Nat.le_of_ble_eq_true rfl) dX4_nextRoute_41 rfl rfl hk (Nat.zero_add _) (fun v9 M2 H locs hP S hk => ?_) (fun E q ce M9 H9 locs9 hX => hX.elim)
        obtain ⟨v3, rfl, h⟩ := hP
        refine W.eq (g2 := F0 m 44 ls [.int v3]) rfl ?_
        exact mm_iret C S hr (Nat.le_trans (Nat.le_add_right _ _) hk) dX4_nextRoute_44 h
      · have h := h.2 c9
        refine lv_iload_n hx hb dX4_nextRoute_12 rfl (lv_at hl 1 rfl) ?_
        refine lv_iconst (v := (-1)) hx hb dX4_nextRoute_13 (by decide) ?_
        refine lv_icmp_eq (tgt := 31) hx hb dX4_nextRoute_14 (by decide) (fun c9 => ?_) (fun c9 => ?_)
        · have h := h.1 c9
          exact j31 _ _ _ _ _ _ _ _ hk S (lv_sub hl [0, 2] rfl) h
        · have h := h.2 c9
          refine lv_aload_n hx hb dX4_nextRoute_17 rfl (lv_at hl 0 rfl) ?_
          refine lv_iload_n hx hb dX4_nextRoute_18 rfl (lv_at hl 2 rfl) ?_
          obtain ⟨hI, h⟩ := h
          refine mm_V (As := [.int x2]) (rest := []) C S hl.1 (wk_X4_worthOf hst0 h) (T := TX4) rfl hI (lw_V q1957 q1959 qs36 q58 q1960) rfl pd_X4_worthOf ⟨Nat.le_of_ble_eq_true rfl, Nat.le_of_ble_eq_true rfl⟩ rfl rfl (Nat.le_of_ble_eq_true rfl) dX4_nextRoute_19 rfl rfl hk (Nat.zero_add _) (fun v9 M4 H locs hP S hk => ?_) (fun E q ce M9 H9 locs9 hX => hX.elim)
          obtain ⟨g5, rfl, h⟩ := hP
          refine W.eq (g2 := F0 m 22 ls [.long g5]) rfl ?_
          refine lv_aload_n hx hb dX4_nextRoute_22 rfl (lv_at hl 0 rfl) ?_
          refine lv_iload_n hx hb dX4_nextRoute_23 rfl (lv_at hl 1 rfl) ?_
          obtain ⟨hI, h⟩ := h
          refine mm_V (As := [.int x1]) (rest := [.long g5]) C S hl.1 (wk_X4_worthOf hst0 h) (T := TX4) rfl hI (lw_V q1957 q1959 qs36 q58 q1960) rfl pd_X4_worthOf ⟨Nat.le_of_ble_eq_true rfl, Nat.le_of_ble_eq_true rfl⟩ rfl rfl (Nat.le_of_ble_eq_true rfl) dX4_nextRoute_24 rfl rfl hk (Nat.zero_add _) (fun v9 M6 H locs hP S hk => ?_) (fun E q ce M9 H9 locs9 hX => hX.elim)
          obtain ⟨g7, rfl, h⟩ := hP
          refine W.eq (g2 := F0 m 27 ls [.long g7, .long g5]) rfl ?_
          refine W.lcmp hx hb dX4_nextRoute_27 ?_
          refine lv_if_le (tgt := 33) hx hb dX4_nextRoute_28 (by decide) (fun c9 => ?_) (fun c9 => ?_)
          · have h := h.1 c9
            exact j33 _ _ _ _ _ _ _ _ _ hk S hl h
          · have h := h.2 c9
            exact j31 _ _ _ _ _ _ _ _ hk S (lv_sub hl [0, 2] rfl) h
  unfold wp_X4_nextRoute at h
  refine lv_iconst (v := (-1)) hx hb dX4_nextRoute_0 (by decide) ?_
  refine lv_istore_n (lv' := [(1, .int (-1)), (0, .ref a0)]) hx hb dX4_nextRoute_1 rfl hl (by decide) rfl (fun ls hl => ?_)
  refine lv_iconst (v := 0) hx hb dX4_nextRoute_2 (by decide) ?_
  refine lv_istore_n (lv' := [(2, .int 0), (1, .int (-1)), (0, .ref a0)]) hx hb dX4_nextRoute_3 rfl hl (by decide) rfl (fun ls hl => ?_)
  obtain ⟨nf, h⟩ := h
  exact j4 nf _ _ _ _ _ _ _ _ _ hk S (lv_sub hl [2, 1, 0] rfl) h
/-! X4_nextYear: level 11 -/
def wb_X4_nextYear_51 (G : mG) (P : Int32 → mM → Prop) (K27 : Nat → mM → Nat → Int32 → Prop) (r : Nat) (M : mM) (a0 : Nat) (x1 : Int32) : Prop :=
  K27 r M a0 (x1 + 1)
def wl_X4_nextYear_27 (G : mG) (P : Int32 → mM → Prop) : Nat → Nat → mM → Nat → Int32 → Prop
  | 0, _, _, _, _ => False
  | n + 1, r, M, a0, x1 => gfi M a0 3 28 fun v4 => (v4 ≤ x1 → gfi M a0 3 2 fun v5 => pfi M a0 3 2 (v5 + 1) fun M6 => P (v5 + 1) M6) ∧ (¬ v4 ≤ x1 → gfa M a0 3 34 fun u7 => ldi M 0 u7 x1 fun v8 => (¬ v8 = 0 → wb_X4_nextYear_51 G P (wl_X4_nextYear_27 G P n) r M a0 x1) ∧ (v8 = 0 → gfa M a0 3 34 fun u9 => sti M 0 u9 x1 2 fun M10 => wb_X4_nextYear_51 G P (wl_X4_nextYear_27 G P n) r M10 a0 x1))
def wb_X4_nextYear_15 (G : mG) (P : Int32 → mM → Prop) (r : Nat) (M : mM) (a0 : Nat) (s0 : Nat) (s1 : Int32) : Prop :=
  isc M s0 3 ∧ (wp_X4_fails G 0 (fun v3 M2 => (v3 = 0 → ∃ n27, wl_X4_nextYear_27 G P n27 r M2 a0 0) ∧ (¬ v3 = 0 → P 0 M2)) M s0 s1 0 0)
def wp_X4_nextYear (G : mG) (b : Nat) (P : Int32 → mM → Prop) (M : mM) (a0 : Nat) : Prop :=
  gfi M a0 3 2 fun v1 => (¬ v1 = 9 → wb_X4_nextYear_15 G P b M a0 a0 0) ∧ (v1 = 9 → wb_X4_nextYear_15 G P b M a0 a0 1)
set_option maxHeartbeats 4000000 in
set_option maxRecDepth 100000 in
theorem wk_X4_nextYear {l : Launch} (hst0 : l.stackTraces = false) {G : mG} {b : Nat} {P : Int32 → mM → Prop} {M : mM} {a0 : Nat} (h : wp_X4_nextYear G b P M a0) : mMet l yX4_nextYear (ws_ yX4_nextYear cX4_nextYear 2 (Option.some Jvm.ClassFile.FieldType.int)) 11 b G [.ref a0] M (mRi P) (fun _ _ _ => False) := by
  refine mm_met hst0 (by decide) (Nat.le_of_ble_eq_true rfl) ?_
  intro p e s m args below meth c ls C hr hnt hnm hl S
  have hl : lv_has ls 2 [(0, .ref a0)] := hl
  generalize mA M s.heap.size = A at C S ⊢
  have hx := C.hx
  have hb := C.hb
  have hk : 0 + b ≤ b := Nat.le_of_eq (Nat.zero_add b)
  have j27 : ∀ (nf : Nat) (k r : Nat) (M : mM) (H : Heap) (locs : List Loc) (ls : Array Slot) (a0 : Nat) (x1 : Int32), k + r ≤ b → mW G A s M H locs → lv_has ls 2 [(0, .ref a0), (1, .int x1)] → wl_X4_nextYear_27 G P nf r M a0 x1 → W p l e (mRm 11 b) s m args below meth c H locs k k (vx_MQ below (mQ G A (mRi P)) (mXC G A (fun _ _ _ => False)) args s b b A) (F0 m 27 ls []) := by
    intro nf
    induction nf with
    | zero =>
      intro k r M H locs ls a0 x1 hk S hl h
      rw [wl_X4_nextYear_27] at h
      exact h.elim
    | succ n27 ih27 =>
      have j51 : ∀ (k r : Nat) (M : mM) (H : Heap) (locs : List Loc) (ls : Array Slot) (a0 : Nat) (x1 : Int32), k + r ≤ b → mW G A s M H locs → lv_has ls 2 [(0, .ref a0), (1, .int x1)] → wb_X4_nextYear_51 G P (wl_X4_nextYear_27 G P n27) r M a0 x1 → W p l e (mRm 11 b) s m args below meth c H locs k k (vx_MQ below (mQ G A (mRi P)) (mXC G A (fun _ _ _ => False)) args s b b A) (F0 m 51 ls []) := by
        intro k r M H locs ls a0 x1 hk S hl h
        unfold wb_X4_nextYear_51 at h
        refine lv_iinc (v := (x1 + 1)) (lv' := [(1, .int (x1 + 1)), (0, .ref a0)]) hx hb dX4_nextYear_51 hl (k := 1) rfl rfl (by decide) rfl (fun ls hl => ?_)
        refine lv_goto (tgt := 27) hx hb dX4_nextYear_54 (by decide) ?_
        exact ih27 _ _ _ _ _ _ _ _ hk S (lv_sub hl [1, 0] rfl) h
      intro k r M H locs ls a0 x1 hk S hl h
      rw [wl_X4_nextYear_27] at h
      refine lv_iload_n hx hb dX4_nextYear_27 rfl (lv_at hl 1 rfl) ?_
      refine lv_aload_n hx hb dX4_nextYear_28 rfl (lv_at hl 0 rfl) ?_
      refine mm_gfi C S (ci := 3) (k := 28) rfl in_X4 (by decide) q1698 (fun _ h9 => h9) dX4_nextYear_29 h (fun v4 h => ?_)
      refine lv_icmp_ge (tgt := 57) hx hb dX4_nextYear_32 (by decide) (fun c9 => ?_) (fun c9 => ?_)
      · have h := h.1 c9
        refine lv_aload_n hx hb dX4_nextYear_57 rfl (lv_at hl 0 rfl) ?_
        refine lv_dup hx hb dX4_nextYear_58 rfl ?_
        refine mm_gfi C S (ci := 3) (k := 2) rfl in_X4 (by decide) q1672 (fun _ h9 => h9) dX4_nextYear_59 h (fun v5 h => ?_)
        refine lv_iconst (v := 1) hx hb dX4_nextYear_62 (by decide) ?_
        refine lv_iadd hx hb dX4_nextYear_63 ?_
        refine lv_dup_x1 hx hb dX4_nextYear_64 rfl rfl ?_
        refine mm_pfi C S (ci := 3) (k := 2) rfl in_X4 tyX4_ok nmX4 (by decide) q1672 (fun _ h9 => h9) rfl dX4_nextYear_65 rfl h (fun M6 H locs h S => ?_)
        exact mm_iret C S hr (Nat.le_trans (Nat.le_add_right _ _) hk) dX4_nextYear_68 h
      · have h := h.2 c9
        refine lv_aload_n hx hb dX4_nextYear_35 rfl (lv_at hl 0 rfl) ?_
        refine mm_gfa C S (ci := 3) (k := 34) rfl in_X4 (by decide) q1704 (fun _ h9 => h9) dX4_nextYear_36 h (fun u7 h => ?_)
        refine lv_iload_n hx hb dX4_nextYear_39 rfl (lv_at hl 1 rfl) ?_
        refine mm_iald C S h dX4_nextYear_40 (fun v8 h => ?_)
        refine lv_if_ne (tgt := 51) hx hb dX4_nextYear_41 (by decide) (fun c9 => ?_) (fun c9 => ?_)
        · have h := h.1 c9
          exact j51 _ _ _ _ _ _ _ _ hk S hl h
        · have h := h.2 c9
          refine lv_aload_n hx hb dX4_nextYear_44 rfl (lv_at hl 0 rfl) ?_
          refine mm_gfa C S (ci := 3) (k := 34) rfl in_X4 (by decide) q1704 (fun _ h9 => h9) dX4_nextYear_45 h (fun u9 h => ?_)
          refine lv_iload_n hx hb dX4_nextYear_48 rfl (lv_at hl 1 rfl) ?_
          refine lv_iconst (v := 2) hx hb dX4_nextYear_49 (by decide) ?_
          refine mm_iast C S h dX4_nextYear_50 (fun M10 H locs h S => ?_)
          exact j51 _ _ _ _ _ _ _ _ hk S hl h
  have j15 : ∀ (k r : Nat) (M : mM) (H : Heap) (locs : List Loc) (ls : Array Slot) (a0 : Nat) (s0 : Nat) (s1 : Int32), k + r ≤ b → mW G A s M H locs → lv_has ls 2 [(0, .ref a0)] → wb_X4_nextYear_15 G P r M a0 s0 s1 → W p l e (mRm 11 b) s m args below meth c H locs k k (vx_MQ below (mQ G A (mRi P)) (mXC G A (fun _ _ _ => False)) args s b b A) (F0 m 15 ls [.int s1, .ref s0]) := by
    intro k r M H locs ls a0 s0 s1 hk S hl h
    unfold wb_X4_nextYear_15 at h
    refine lv_iconst (v := 0) hx hb dX4_nextYear_15 (by decide) ?_
    refine lv_iconst (v := 0) hx hb dX4_nextYear_16 (by decide) ?_
    obtain ⟨hI, h⟩ := h
    refine mm_V (As := [.int s1, .int 0, .int 0]) (rest := []) C S hl.1 (wk_X4_fails hst0 h) (T := TX4) rfl hI (lw_V q1836 q1838 qs22 q58 q1839) rfl pd_X4_fails ⟨Nat.le_of_ble_eq_true rfl, Nat.le_of_ble_eq_true rfl⟩ rfl rfl (Nat.le_of_ble_eq_true rfl) dX4_nextYear_17 rfl rfl hk (Nat.zero_add _) (fun v9 M2 H locs hP S hk => ?_) (fun E q ce M9 H9 locs9 hX => hX.elim)
    obtain ⟨v3, rfl, h⟩ := hP
    refine W.eq (g2 := F0 m 20 ls [.int v3]) rfl ?_
    refine lv_if_eq (tgt := 25) hx hb dX4_nextYear_20 (by decide) (fun c9 => ?_) (fun c9 => ?_)
    · have h := h.1 c9
      refine lv_iconst (v := 0) hx hb dX4_nextYear_25 (by decide) ?_
      refine lv_istore_n (lv' := [(1, .int 0), (0, .ref a0)]) hx hb dX4_nextYear_26 rfl hl (by decide) rfl (fun ls hl => ?_)
      obtain ⟨nf, h⟩ := h
      exact j27 nf _ _ _ _ _ _ _ _ hk S (lv_sub hl [1, 0] rfl) h
    · have h := h.2 c9
      refine lv_iconst (v := 0) hx hb dX4_nextYear_23 (by decide) ?_
      exact mm_iret C S hr (Nat.le_trans (Nat.le_add_right _ _) hk) dX4_nextYear_24 h
  unfold wp_X4_nextYear at h
  refine lv_aload_n hx hb dX4_nextYear_0 rfl (lv_at hl 0 rfl) ?_
  refine lv_aload_n hx hb dX4_nextYear_1 rfl (lv_at hl 0 rfl) ?_
  refine mm_gfi C S (ci := 3) (k := 2) rfl in_X4 (by decide) q1672 (fun _ h9 => h9) dX4_nextYear_2 h (fun v1 h => ?_)
  refine lv_bipush (v := 9) hx hb dX4_nextYear_5 (by decide) ?_
  refine lv_icmp_ne (tgt := 14) hx hb dX4_nextYear_7 (by decide) (fun c9 => ?_) (fun c9 => ?_)
  · have h := h.1 c9
    refine lv_iconst (v := 0) hx hb dX4_nextYear_14 (by decide) ?_
    exact j15 _ _ _ _ _ _ _ _ _ hk S hl h
  · have h := h.2 c9
    refine lv_iconst (v := 1) hx hb dX4_nextYear_10 (by decide) ?_
    refine lv_goto (tgt := 15) hx hb dX4_nextYear_11 (by decide) ?_
    exact j15 _ _ _ _ _ _ _ _ _ hk S hl h
/-! X4_noRoute: level 11 -/
def wb_X4_noRoute_19 (G : mG) (P : Int32 → mM → Prop) (r : Nat) (M : mM) (s0 : Int32) : Prop :=
  narrow .boolean (.int s0) = .int s0 ∧ P s0 M
def wp_X4_noRoute (G : mG) (b : Nat) (P : Int32 → mM → Prop) (M : mM) (a0 : Nat) (x1 : Int32) : Prop :=
  gfi M a0 3 24 fun v1 => wp_X4_isIn G 0 (fun v3 M2 => (¬ v3 = 0 → wb_X4_noRoute_19 G P b M2 0) ∧ (v3 = 0 → wb_X4_noRoute_19 G P b M2 1)) M x1 0 (v1 - 1)
set_option maxHeartbeats 4000000 in
set_option maxRecDepth 100000 in
theorem wk_X4_noRoute {l : Launch} (hst0 : l.stackTraces = false) {G : mG} {b : Nat} {P : Int32 → mM → Prop} {M : mM} {a0 : Nat} {x1 : Int32} (h : wp_X4_noRoute G b P M a0 x1) : mMet l yX4_noRoute (ws_ yX4_noRoute cX4_noRoute 2 (Option.some Jvm.ClassFile.FieldType.boolean)) 11 b G [.ref a0, .int x1] M (mRi P) (fun _ _ _ => False) := by
  refine mm_met hst0 (by decide) (Nat.le_of_ble_eq_true rfl) ?_
  intro p e s m args below meth c ls C hr hnt hnm hl S
  have hl : lv_has ls 2 [(0, .ref a0), (1, .int x1)] := hl
  generalize mA M s.heap.size = A at C S ⊢
  have hx := C.hx
  have hb := C.hb
  have hk : 0 + b ≤ b := Nat.le_of_eq (Nat.zero_add b)
  have j19 : ∀ (k r : Nat) (M : mM) (H : Heap) (locs : List Loc) (ls : Array Slot) (s0 : Int32), k + r ≤ b → mW G A s M H locs → lv_has ls 2 [] → wb_X4_noRoute_19 G P r M s0 → W p l e (mRm 11 b) s m args below meth c H locs k k (vx_MQ below (mQ G A (mRi P)) (mXC G A (fun _ _ _ => False)) args s b b A) (F0 m 19 ls [.int s0]) := by
    intro k r M H locs ls s0 hk S hl h
    unfold wb_X4_noRoute_19 at h
    exact mm_zret C S hr (Nat.le_trans (Nat.le_add_right _ _) hk) dX4_noRoute_19 h
  unfold wp_X4_noRoute at h
  refine lv_iload_n hx hb dX4_noRoute_0 rfl (lv_at hl 1 rfl) ?_
  refine lv_iconst (v := 0) hx hb dX4_noRoute_1 (by decide) ?_
  refine lv_aload_n hx hb dX4_noRoute_2 rfl (lv_at hl 0 rfl) ?_
  refine mm_gfi C S (ci := 3) (k := 24) rfl in_X4 (by decide) q1694 (fun _ h9 => h9) dX4_noRoute_3 h (fun v1 h => ?_)
  refine lv_iconst (v := 1) hx hb dX4_noRoute_6 (by decide) ?_
  refine lv_isub hx hb dX4_noRoute_7 ?_
  refine mm_S (As := [.int x1, .int 0, .int (v1 - 1)]) (rest := []) C S hl.1 (wk_X4_isIn hst0 h) (lw_S q1830 q1831 q58 q1832) pd_X4_isIn ⟨Nat.le_of_ble_eq_true rfl, Nat.le_of_ble_eq_true rfl⟩ rfl rfl (Nat.le_of_ble_eq_true rfl) dX4_noRoute_8 rfl rfl hk (Nat.zero_add _) (fun v9 M2 H locs hP S hk => ?_) (fun E q ce M9 H9 locs9 hX => hX.elim)
  obtain ⟨v3, rfl, h⟩ := hP
  refine W.eq (g2 := F0 m 11 ls [.int v3]) rfl ?_
  refine lv_if_ne (tgt := 18) hx hb dX4_noRoute_11 (by decide) (fun c9 => ?_) (fun c9 => ?_)
  · have h := h.1 c9
    refine lv_iconst (v := 0) hx hb dX4_noRoute_18 (by decide) ?_
    exact j19 _ _ _ _ _ _ _ hk S (lv_sub hl [] rfl) h
  · have h := h.2 c9
    refine lv_iconst (v := 1) hx hb dX4_noRoute_14 (by decide) ?_
    refine lv_goto (tgt := 19) hx hb dX4_noRoute_15 (by decide) ?_
    exact j19 _ _ _ _ _ _ _ hk S (lv_sub hl [] rfl) h
/-! X4_noWalker: level 11 -/
def wb_X4_noWalker_19 (G : mG) (P : Int32 → mM → Prop) (r : Nat) (M : mM) (s0 : Int32) : Prop :=
  narrow .boolean (.int s0) = .int s0 ∧ P s0 M
def wp_X4_noWalker (G : mG) (b : Nat) (P : Int32 → mM → Prop) (M : mM) (a0 : Nat) (x1 : Int32) : Prop :=
  gfi M a0 3 27 fun v1 => wp_X4_isIn G 0 (fun v3 M2 => (¬ v3 = 0 → wb_X4_noWalker_19 G P b M2 0) ∧ (v3 = 0 → wb_X4_noWalker_19 G P b M2 1)) M x1 0 (v1 - 1)
set_option maxHeartbeats 4000000 in
set_option maxRecDepth 100000 in
theorem wk_X4_noWalker {l : Launch} (hst0 : l.stackTraces = false) {G : mG} {b : Nat} {P : Int32 → mM → Prop} {M : mM} {a0 : Nat} {x1 : Int32} (h : wp_X4_noWalker G b P M a0 x1) : mMet l yX4_noWalker (ws_ yX4_noWalker cX4_noWalker 2 (Option.some Jvm.ClassFile.FieldType.boolean)) 11 b G [.ref a0, .int x1] M (mRi P) (fun _ _ _ => False) := by
  refine mm_met hst0 (by decide) (Nat.le_of_ble_eq_true rfl) ?_
  intro p e s m args below meth c ls C hr hnt hnm hl S
  have hl : lv_has ls 2 [(0, .ref a0), (1, .int x1)] := hl
  generalize mA M s.heap.size = A at C S ⊢
  have hx := C.hx
  have hb := C.hb
  have hk : 0 + b ≤ b := Nat.le_of_eq (Nat.zero_add b)
  have j19 : ∀ (k r : Nat) (M : mM) (H : Heap) (locs : List Loc) (ls : Array Slot) (s0 : Int32), k + r ≤ b → mW G A s M H locs → lv_has ls 2 [] → wb_X4_noWalker_19 G P r M s0 → W p l e (mRm 11 b) s m args below meth c H locs k k (vx_MQ below (mQ G A (mRi P)) (mXC G A (fun _ _ _ => False)) args s b b A) (F0 m 19 ls [.int s0]) := by
    intro k r M H locs ls s0 hk S hl h
    unfold wb_X4_noWalker_19 at h
    exact mm_zret C S hr (Nat.le_trans (Nat.le_add_right _ _) hk) dX4_noWalker_19 h
  unfold wp_X4_noWalker at h
  refine lv_iload_n hx hb dX4_noWalker_0 rfl (lv_at hl 1 rfl) ?_
  refine lv_iconst (v := 0) hx hb dX4_noWalker_1 (by decide) ?_
  refine lv_aload_n hx hb dX4_noWalker_2 rfl (lv_at hl 0 rfl) ?_
  refine mm_gfi C S (ci := 3) (k := 27) rfl in_X4 (by decide) q1697 (fun _ h9 => h9) dX4_noWalker_3 h (fun v1 h => ?_)
  refine lv_iconst (v := 1) hx hb dX4_noWalker_6 (by decide) ?_
  refine lv_isub hx hb dX4_noWalker_7 ?_
  refine mm_S (As := [.int x1, .int 0, .int (v1 - 1)]) (rest := []) C S hl.1 (wk_X4_isIn hst0 h) (lw_S q1830 q1831 q58 q1832) pd_X4_isIn ⟨Nat.le_of_ble_eq_true rfl, Nat.le_of_ble_eq_true rfl⟩ rfl rfl (Nat.le_of_ble_eq_true rfl) dX4_noWalker_8 rfl rfl hk (Nat.zero_add _) (fun v9 M2 H locs hP S hk => ?_) (fun E q ce M9 H9 locs9 hX => hX.elim)
  obtain ⟨v3, rfl, h⟩ := hP
  refine W.eq (g2 := F0 m 11 ls [.int v3]) rfl ?_
  refine lv_if_ne (tgt := 18) hx hb dX4_noWalker_11 (by decide) (fun c9 => ?_) (fun c9 => ?_)
  · have h := h.1 c9
    refine lv_iconst (v := 0) hx hb dX4_noWalker_18 (by decide) ?_
    exact j19 _ _ _ _ _ _ _ hk S (lv_sub hl [] rfl) h
  · have h := h.2 c9
    refine lv_iconst (v := 1) hx hb dX4_noWalker_14 (by decide) ?_
    refine lv_goto (tgt := 19) hx hb dX4_noWalker_15 (by decide) ?_
    exact j19 _ _ _ _ _ _ _ hk S (lv_sub hl [] rfl) h
/-! X4_note: level 12 -/
def wb_X4_note_139 (G : mG) (P : Int32 → mM → Prop) (r : Nat) (M : mM) (a0 : Nat) (x1 : Int32) (x2 : Int32) (x3 : Int32) (x4 : Int32) (x5 : Int32) (s0 : Nat) (s1 : Int32) (s2 : Int32) (s3 : Int32) : Prop :=
  isc M s0 3 ∧ (wp_X4_fails G 0 (fun v28 M27 => (v28 = 0 → gfa M27 a0 3 36 fun u29 => gfi M27 a0 3 29 fun v30 => sti M27 0 u29 v30 x1 fun M31 => gfa M31 a0 3 37 fun u32 => gfi M31 a0 3 29 fun v33 => sti M31 0 u32 v33 x2 fun M34 => gfa M34 a0 3 38 fun u35 => gfi M34 a0 3 29 fun v36 => sti M34 0 u35 v36 x3 fun M37 => gfa M37 a0 3 39 fun u38 => gfi M37 a0 3 29 fun v39 => sti M37 0 u38 v39 x4 fun M40 => gfa M40 a0 3 40 fun u41 => gfi M40 a0 3 29 fun v42 => pfi M40 a0 3 29 (v42 + 1) fun M43 => sti M43 0 u41 v42 x5 fun M44 => gfa M44 a0 3 41 fun u45 => lda M44 9 u45 x1 fun u46 => lda M44 8 u46 x3 fun u47 => ldi M44 0 u47 x4 fun v48 => sti M44 0 u47 x4 (v48 + x5) fun M49 => gfa M49 a0 3 35 fun u50 => ldi M49 0 u50 x1 fun v51 => sti M49 0 u50 x1 (v51 + 1) fun M52 => P (v51 + 1) M52) ∧ (¬ v28 = 0 → P 0 M27)) M s0 s1 s2 s3)
def wb_X4_note_134 (G : mG) (P : Int32 → mM → Prop) (r : Nat) (M : mM) (a0 : Nat) (x1 : Int32) (x2 : Int32) (x3 : Int32) (x4 : Int32) (x5 : Int32) (s0 : Nat) (s1 : Int32) (s2 : Int32) : Prop :=
  wb_X4_note_139 G P r M a0 x1 x2 x3 x4 x5 s0 s1 s2 1
def wb_X4_note_115 (G : mG) (P : Int32 → mM → Prop) (r : Nat) (M : mM) (a0 : Nat) (x1 : Int32) (x2 : Int32) (x3 : Int32) (x4 : Int32) (x5 : Int32) (s0 : Nat) (s1 : Int32) (s2 : Int32) : Prop :=
  gfa M a0 3 34 fun u24 => ldi M 0 u24 x1 fun v25 => (¬ v25 = 0 → wb_X4_note_134 G P r M a0 x1 x2 x3 x4 x5 s0 s1 s2) ∧ (v25 = 0 → gfi M a0 3 29 fun v26 => (¬ v26 = 200 → wb_X4_note_139 G P r M a0 x1 x2 x3 x4 x5 s0 s1 s2 0) ∧ (v26 = 200 → wb_X4_note_134 G P r M a0 x1 x2 x3 x4 x5 s0 s1 s2))
def wb_X4_note_110 (G : mG) (P : Int32 → mM → Prop) (r : Nat) (M : mM) (a0 : Nat) (x1 : Int32) (x2 : Int32) (x3 : Int32) (x4 : Int32) (x5 : Int32) (s0 : Nat) (s1 : Int32) : Prop :=
  wb_X4_note_115 G P r M a0 x1 x2 x3 x4 x5 s0 s1 1
def wb_X4_note_70 (G : mG) (P : Int32 → mM → Prop) (r : Nat) (M : mM) (a0 : Nat) (x1 : Int32) (x2 : Int32) (x3 : Int32) (x4 : Int32) (x5 : Int32) (x6 : Int32) (s0 : Nat) (s1 : Int32) : Prop :=
  isc M s0 3 ∧ (wp_X4_fails G 0 (fun v16 M15 => (v16 = 0 → wp_X4_isIn G 0 (fun v18 M17 => (v18 = 0 → wb_X4_note_110 G P r M17 a0 x1 x2 x3 x4 x5 a0 0) ∧ (¬ v18 = 0 → gfa M17 a0 3 26 fun u19 => lda M17 8 u19 x6 fun u20 => ldi M17 0 u20 x2 fun v21 => wp_X4_distance G 0 (fun v23 M22 => (v23 ≤ 3 → wb_X4_note_115 G P r M22 a0 x1 x2 x3 x4 x5 a0 0 0) ∧ (¬ v23 ≤ 3 → wb_X4_note_110 G P r M22 a0 x1 x2 x3 x4 x5 a0 0)) M17 v21 x3)) M15 x5 1 50) ∧ (¬ v16 = 0 → P 0 M15)) M s0 s1 0 0)
def wb_X4_note_29 (G : mG) (P : Int32 → mM → Prop) (r : Nat) (M : mM) (a0 : Nat) (x1 : Int32) (x2 : Int32) (x3 : Int32) (x4 : Int32) (x5 : Int32) (s0 : Nat) (s1 : Int32) : Prop :=
  isc M s0 3 ∧ (wp_X4_fails G 0 (fun v8 M7 => (v8 = 0 → gfa M7 a0 3 31 fun u9 => ldi M7 0 u9 x1 fun v10 => gfa M7 a0 3 23 fun u11 => ldi M7 0 u11 v10 fun v12 => wp_X4_isIn G 0 (fun v14 M13 => (¬ v14 = 0 → wb_X4_note_70 G P r M13 a0 x1 x2 x3 x4 x5 v10 a0 0) ∧ (v14 = 0 → wb_X4_note_70 G P r M13 a0 x1 x2 x3 x4 x5 v10 a0 1)) M7 x2 0 (v12 - 1)) ∧ (¬ v8 = 0 → P 0 M7)) M s0 s1 0 0)
def wb_X4_note_24 (G : mG) (P : Int32 → mM → Prop) (r : Nat) (M : mM) (a0 : Nat) (x1 : Int32) (x2 : Int32) (x3 : Int32) (x4 : Int32) (x5 : Int32) (s0 : Nat) : Prop :=
  wb_X4_note_29 G P r M a0 x1 x2 x3 x4 x5 s0 1
def wp_X4_note (G : mG) (b : Nat) (P : Int32 → mM → Prop) (M : mM) (a0 : Nat) (x1 : Int32) (x2 : Int32) (x3 : Int32) (x4 : Int32) (x5 : Int32) : Prop :=
  isc M a0 3 ∧ (wp_X4_noWalk G 0 (fun v2 M1 => (¬ v2 = 0 → wb_X4_note_24 G P b M1 a0 x1 x2 x3 x4 x5 a0) ∧ (v2 = 0 → wp_X4_noCell G 0 (fun v4 M3 => (¬ v4 = 0 → wb_X4_note_24 G P b M3 a0 x1 x2 x3 x4 x5 a0) ∧ (v4 = 0 → wp_X4_noKind G 0 (fun v6 M5 => (v6 = 0 → wb_X4_note_29 G P b M5 a0 x1 x2 x3 x4 x5 a0 0) ∧ (¬ v6 = 0 → wb_X4_note_24 G P b M5 a0 x1 x2 x3 x4 x5 a0)) M3 x4)) M1 x3)) M a0 x1)
set_option maxHeartbeats 4000000 in
set_option maxRecDepth 100000 in
theorem wk_X4_note {l : Launch} (hst0 : l.stackTraces = false) {G : mG} {b : Nat} {P : Int32 → mM → Prop} {M : mM} {a0 : Nat} {x1 : Int32} {x2 : Int32} {x3 : Int32} {x4 : Int32} {x5 : Int32} (h : wp_X4_note G b P M a0 x1 x2 x3 x4 x5) : mMet l yX4_note (ws_ yX4_note cX4_note 7 (Option.some Jvm.ClassFile.FieldType.int)) 12 b G [.ref a0, .int x1, .int x2, .int x3, .int x4, .int x5] M (mRi P) (fun _ _ _ => False) := by
  refine mm_met hst0 (by decide) (Nat.le_of_ble_eq_true rfl) ?_
  intro p e s m args below meth c ls C hr hnt hnm hl S
  have hl : lv_has ls 7 [(0, .ref a0), (1, .int x1), (2, .int x2), (3, .int x3), (4, .int x4), (5, .int x5)] := hl
  generalize mA M s.heap.size = A at C S ⊢
  have hx := C.hx
  have hb := C.hb
  have hk : 0 + b ≤ b := Nat.le_of_eq (Nat.zero_add b)
  have j139 : ∀ (k r : Nat) (M : mM) (H : Heap) (locs : List Loc) (ls : Array Slot) (a0 : Nat) (x1 : Int32) (x2 : Int32) (x3 : Int32) (x4 : Int32) (x5 : Int32) (s0 : Nat) (s1 : Int32) (s2 : Int32) (s3 : Int32), k + r ≤ b → mW G A s M H locs → lv_has ls 7 [(0, .ref a0), (1, .int x1), (2, .int x2), (3, .int x3), (4, .int x4), (5, .int x5)] → wb_X4_note_139 G P r M a0 x1 x2 x3 x4 x5 s0 s1 s2 s3 → W p l e (mRm 12 b) s m args below meth c H locs k k (vx_MQ below (mQ G A (mRi P)) (mXC G A (fun _ _ _ => False)) args s b b A) (F0 m 139 ls [.int s3, .int s2, .int s1, .ref s0]) := by
    intro k r M H locs ls a0 x1 x2 x3 x4 x5 s0 s1 s2 s3 hk S hl h
    unfold wb_X4_note_139 at h
    obtain ⟨hI, h⟩ := h
    refine mm_V (As := [.int s1, .int s2, .int s3]) (rest := []) C S hl.1 (wk_X4_fails hst0 h) (T := TX4) rfl hI (lw_V q1836 q1838 qs22 q58 q1839) rfl pd_X4_fails ⟨Nat.le_of_ble_eq_true rfl, Nat.le_of_ble_eq_true rfl⟩ rfl rfl (Nat.le_of_ble_eq_true rfl) dX4_note_139 rfl rfl hk (Nat.zero_add _) (fun v9 M27 H locs hP S hk => ?_) (fun E q ce M9 H9 locs9 hX => hX.elim)
    obtain ⟨v28, rfl, h⟩ := hP
    refine W.eq (g2 := F0 m 142 ls [.int v28]) rfl ?_
    refine lv_if_eq (tgt := 147) hx hb dX4_note_142 (by decide) (fun c9 => ?_) (fun c9 => ?_)
    · have h := h.1 c9
      refine lv_aload_n hx hb dX4_note_147 rfl (lv_at hl 0 rfl) ?_
      refine mm_gfa C S (ci := 3) (k := 36) rfl in_X4 (by decide) q1706 (fun _ h9 => h9) dX4_note_148 h (fun u29 h => ?_)
      refine lv_aload_n hx hb dX4_note_151 rfl (lv_at hl 0 rfl) ?_
      refine mm_gfi C S (ci := 3) (k := 29) rfl in_X4 (by decide) q1699 (fun _ h9 => h9) dX4_note_152 h (fun v30 h => ?_)
      refine lv_iload_n hx hb dX4_note_155 rfl (lv_at hl 1 rfl) ?_
      refine mm_iast C S h dX4_note_156 (fun M31 H locs h S => ?_)
      refine lv_aload_n hx hb dX4_note_157 rfl (lv_at hl 0 rfl) ?_
      refine mm_gfa C S (ci := 3) (k := 37) rfl in_X4 (by decide) q1707 (fun _ h9 => h9) dX4_note_158 h (fun u32 h => ?_)
      refine lv_aload_n hx hb dX4_note_161 rfl (lv_at hl 0 rfl) ?_
      refine mm_gfi C S (ci := 3) (k := 29) rfl in_X4 (by decide) q1699 (fun _ h9 => h9) dX4_note_162 h (fun v33 h => ?_)
      refine lv_iload_n hx hb dX4_note_165 rfl (lv_at hl 2 rfl) ?_
      refine mm_iast C S h dX4_note_166 (fun M34 H locs h S => ?_)
      refine lv_aload_n hx hb dX4_note_167 rfl (lv_at hl 0 rfl) ?_
      refine mm_gfa C S (ci := 3) (k := 38) rfl in_X4 (by decide) q1708 (fun _ h9 => h9) dX4_note_168 h (fun u35 h => ?_)
      refine lv_aload_n hx hb dX4_note_171 rfl (lv_at hl 0 rfl) ?_
      refine mm_gfi C S (ci := 3) (k := 29) rfl in_X4 (by decide) q1699 (fun _ h9 => h9) dX4_note_172 h (fun v36 h => ?_)
      refine lv_iload_n hx hb dX4_note_175 rfl (lv_at hl 3 rfl) ?_
      refine mm_iast C S h dX4_note_176 (fun M37 H locs h S => ?_)
      refine lv_aload_n hx hb dX4_note_177 rfl (lv_at hl 0 rfl) ?_
      refine mm_gfa C S (ci := 3) (k := 39) rfl in_X4 (by decide) q1709 (fun _ h9 => h9) dX4_note_178 h (fun u38 h => ?_)
      refine lv_aload_n hx hb dX4_note_181 rfl (lv_at hl 0 rfl) ?_
      refine mm_gfi C S (ci := 3) (k := 29) rfl in_X4 (by decide) q1699 (fun _ h9 => h9) dX4_note_182 h (fun v39 h => ?_)
      refine lv_iload hx hb dX4_note_185 (lv_at hl 4 rfl) ?_
      refine mm_iast C S h dX4_note_187 (fun M40 H locs h S => ?_)
      refine lv_aload_n hx hb dX4_note_188 rfl (lv_at hl 0 rfl) ?_
      refine mm_gfa C S (ci := 3) (k := 40) rfl in_X4 (by decide) q1710 (fun _ h9 => h9) dX4_note_189 h (fun u41 h => ?_)
      refine lv_aload_n hx hb dX4_note_192 rfl (lv_at hl 0 rfl) ?_
      refine lv_dup hx hb dX4_note_193 rfl ?_
      refine mm_gfi C S (ci := 3) (k := 29) rfl in_X4 (by decide) q1699 (fun _ h9 => h9) dX4_note_194 h (fun v42 h => ?_)
      refine lv_dup_x1 hx hb dX4_note_197 rfl rfl ?_
      refine lv_iconst (v := 1) hx hb dX4_note_198 (by decide) ?_
      refine lv_iadd hx hb dX4_note_199 ?_
      refine mm_pfi C S (ci := 3) (k := 29) rfl in_X4 tyX4_ok nmX4 (by decide) q1699 (fun _ h9 => h9) rfl dX4_note_200 rfl h (fun M43 H locs h S => ?_)
      refine lv_iload hx hb dX4_note_203 (lv_at hl 5 rfl) ?_
      refine mm_iast C S h dX4_note_205 (fun M44 H locs h S => ?_)
      refine lv_aload_n hx hb dX4_note_206 rfl (lv_at hl 0 rfl) ?_
      refine mm_gfa C S (ci := 3) (k := 41) rfl in_X4 (by decide) q1711 (fun _ h9 => h9) dX4_note_207 h (fun u45 h => ?_)
      refine lv_iload_n hx hb dX4_note_210 rfl (lv_at hl 1 rfl) ?_
      refine mm_aald C S (t := 9) rfl rfl h dX4_note_211 (fun u46 h => ?_)
      refine lv_iload_n hx hb dX4_note_212 rfl (lv_at hl 3 rfl) ?_
      refine mm_aald C S (t := 8) rfl rfl h dX4_note_213 (fun u47 h => ?_)
      refine lv_iload hx hb dX4_note_214 (lv_at hl 4 rfl) ?_
      refine lv_dup2_11 hx hb dX4_note_216 rfl rfl ?_
      refine mm_iald C S h dX4_note_217 (fun v48 h => ?_)
      refine lv_iload hx hb dX4_note_218 (lv_at hl 5 rfl) ?_
      refine lv_iadd hx hb dX4_note_220 ?_
      refine mm_iast C S h dX4_note_221 (fun M49 H locs h S => ?_)
      refine lv_aload_n hx hb dX4_note_222 rfl (lv_at hl 0 rfl) ?_
      refine mm_gfa C S (ci := 3) (k := 35) rfl in_X4 (by decide) q1705 (fun _ h9 => h9) dX4_note_223 h (fun u50 h => ?_)
      refine lv_iload_n hx hb dX4_note_226 rfl (lv_at hl 1 rfl) ?_
      refine lv_dup2_11 hx hb dX4_note_227 rfl rfl ?_
      refine mm_iald C S h dX4_note_228 (fun v51 h => ?_)
      refine lv_iconst (v := 1) hx hb dX4_note_229 (by decide) ?_
      refine lv_iadd hx hb dX4_note_230 ?_
      refine lv_dup_x2 hx hb dX4_note_231 rfl rfl rfl ?_
      refine mm_iast C S h dX4_note_232 (fun M52 H locs h S => ?_)
      exact mm_iret C S hr (Nat.le_trans (Nat.le_add_right _ _) hk) dX4_note_233 h
    · have h := h.2 c9
      refine lv_iconst (v := 0) hx hb dX4_note_145 (by decide) ?_
      exact mm_iret C S hr (Nat.le_trans (Nat.le_add_right _ _) hk) dX4_note_146 h
  have j134 : ∀ (k r : Nat) (M : mM) (H : Heap) (locs : List Loc) (ls : Array Slot) (a0 : Nat) (x1 : Int32) (x2 : Int32) (x3 : Int32) (x4 : Int32) (x5 : Int32) (s0 : Nat) (s1 : Int32) (s2 : Int32), k + r ≤ b → mW G A s M H locs → lv_has ls 7 [(0, .ref a0), (1, .int x1), (2, .int x2), (3, .int x3), (4, .int x4), (5, .int x5)] → wb_X4_note_134 G P r M a0 x1 x2 x3 x4 x5 s0 s1 s2 → W p l e (mRm 12 b) s m args below meth c H locs k k (vx_MQ below (mQ G A (mRi P)) (mXC G A (fun _ _ _ => False)) args s b b A) (F0 m 134 ls [.int s2, .int s1, .ref s0]) := by
    intro k r M H locs ls a0 x1 x2 x3 x4 x5 s0 s1 s2 hk S hl h
    unfold wb_X4_note_134 at h
    refine lv_iconst (v := 1) hx hb dX4_note_134 (by decide) ?_
    refine lv_goto (tgt := 139) hx hb dX4_note_135 (by decide) ?_
    exact j139 _ _ _ _ _ _ _ _ _ _ _ _ _ _ _ _ hk S hl h
  have j115 : ∀ (k r : Nat) (M : mM) (H : Heap) (locs : List Loc) (ls : Array Slot) (a0 : Nat) (x1 : Int32) (x2 : Int32) (x3 : Int32) (x4 : Int32) (x5 : Int32) (s0 : Nat) (s1 : Int32) (s2 : Int32), k + r ≤ b → mW G A s M H locs → lv_has ls 7 [(0, .ref a0), (1, .int x1), (2, .int x2), (3, .int x3), (4, .int x4), (5, .int x5)] → wb_X4_note_115 G P r M a0 x1 x2 x3 x4 x5 s0 s1 s2 → W p l e (mRm 12 b) s m args below meth c H locs k k (vx_MQ below (mQ G A (mRi P)) (mXC G A (fun _ _ _ => False)) args s b b A) (F0 m 115 ls [.int s2, .int s1, .ref s0]) := by
    intro k r M H locs ls a0 x1 x2 x3 x4 x5 s0 s1 s2 hk S hl h
    unfold wb_X4_note_115 at h
    refine lv_aload_n hx hb dX4_note_115 rfl (lv_at hl 0 rfl) ?_
    refine mm_gfa C S (ci := 3) (k := 34) rfl in_X4 (by decide) q1704 (fun _ h9 => h9) dX4_note_116 h (fun u24 h => ?_)
    refine lv_iload_n hx hb dX4_note_119 rfl (lv_at hl 1 rfl) ?_
    refine mm_iald C S h dX4_note_120 (fun v25 h => ?_)
    refine lv_if_ne (tgt := 134) hx hb dX4_note_121 (by decide) (fun c9 => ?_) (fun c9 => ?_)
    · have h := h.1 c9
      exact j134 _ _ _ _ _ _ _ _ _ _ _ _ _ _ _ hk S hl h
    · have h := h.2 c9
      refine lv_aload_n hx hb dX4_note_124 rfl (lv_at hl 0 rfl) ?_
      refine mm_gfi C S (ci := 3) (k := 29) rfl in_X4 (by decide) q1699 (fun _ h9 => h9) dX4_note_125 h (fun v26 h => ?_)
      refine lv_sipush (v := 200) hx hb dX4_note_128 (by decide) ?_
      refine lv_icmp_ne (tgt := 138) hx hb dX4_note_131 (by decide) (fun c9 => ?_) (fun c9 => ?_)
      · have h := h.1 c9
        refine lv_iconst (v := 0) hx hb dX4_note_138 (by decide) ?_
        exact j139 _ _ _ _ _ _ _ _ _ _ _ _ _ _ _ _ hk S hl h
      · have h := h.2 c9
        exact j134 _ _ _ _ _ _ _ _ _ _ _ _ _ _ _ hk S hl h
  have j110 : ∀ (k r : Nat) (M : mM) (H : Heap) (locs : List Loc) (ls : Array Slot) (a0 : Nat) (x1 : Int32) (x2 : Int32) (x3 : Int32) (x4 : Int32) (x5 : Int32) (s0 : Nat) (s1 : Int32), k + r ≤ b → mW G A s M H locs → lv_has ls 7 [(0, .ref a0), (1, .int x1), (2, .int x2), (3, .int x3), (4, .int x4), (5, .int x5)] → wb_X4_note_110 G P r M a0 x1 x2 x3 x4 x5 s0 s1 → W p l e (mRm 12 b) s m args below meth c H locs k k (vx_MQ below (mQ G A (mRi P)) (mXC G A (fun _ _ _ => False)) args s b b A) (F0 m 110 ls [.int s1, .ref s0]) := by
    intro k r M H locs ls a0 x1 x2 x3 x4 x5 s0 s1 hk S hl h
    unfold wb_X4_note_110 at h
    refine lv_iconst (v := 1) hx hb dX4_note_110 (by decide) ?_
    refine lv_goto (tgt := 115) hx hb dX4_note_111 (by decide) ?_
    exact j115 _ _ _ _ _ _ _ _ _ _ _ _ _ _ _ hk S hl h
  have j70 : ∀ (k r : Nat) (M : mM) (H : Heap) (locs : List Loc) (ls : Array Slot) (a0 : Nat) (x1 : Int32) (x2 : Int32) (x3 : Int32) (x4 : Int32) (x5 : Int32) (x6 : Int32) (s0 : Nat) (s1 : Int32), k + r ≤ b → mW G A s M H locs → lv_has ls 7 [(0, .ref a0), (1, .int x1), (2, .int x2), (3, .int x3), (4, .int x4), (5, .int x5), (6, .int x6)] → wb_X4_note_70 G P r M a0 x1 x2 x3 x4 x5 x6 s0 s1 → W p l e (mRm 12 b) s m args below meth c H locs k k (vx_MQ below (mQ G A (mRi P)) (mXC G A (fun _ _ _ => False)) args s b b A) (F0 m 70 ls [.int s1, .ref s0]) := by
    intro k r M H locs ls a0 x1 x2 x3 x4 x5 x6 s0 s1 hk S hl h
    unfold wb_X4_note_70 at h
    refine lv_iconst (v := 0) hx hb dX4_note_70 (by decide) ?_
    refine lv_iconst (v := 0) hx hb dX4_note_71 (by decide) ?_
    obtain ⟨hI, h⟩ := h
    refine mm_V (As := [.int s1, .int 0, .int 0]) (rest := []) C S hl.1 (wk_X4_fails hst0 h) (T := TX4) rfl hI (lw_V q1836 q1838 qs22 q58 q1839) rfl pd_X4_fails ⟨Nat.le_of_ble_eq_true rfl, Nat.le_of_ble_eq_true rfl⟩ rfl rfl (Nat.le_of_ble_eq_true rfl) dX4_note_72 rfl rfl hk (Nat.zero_add _) (fun v9 M15 H locs hP S hk => ?_) (fun E q ce M9 H9 locs9 hX => hX.elim)
    obtain ⟨v16, rfl, h⟩ := hP
    refine W.eq (g2 := F0 m 75 ls [.int v16]) rfl ?_
    refine lv_if_eq (tgt := 80) hx hb dX4_note_75 (by decide) (fun c9 => ?_) (fun c9 => ?_)
    · have h := h.1 c9
      refine lv_aload_n hx hb dX4_note_80 rfl (lv_at hl 0 rfl) ?_
      refine lv_iconst (v := 0) hx hb dX4_note_81 (by decide) ?_
      refine lv_iload hx hb dX4_note_82 (lv_at hl 5 rfl) ?_
      refine lv_iconst (v := 1) hx hb dX4_note_84 (by decide) ?_
      refine lv_bipush (v := 50) hx hb dX4_note_85 (by decide) ?_
      refine mm_S (As := [.int x5, .int 1, .int 50]) (rest := [.int 0, .ref a0]) C S hl.1 (wk_X4_isIn hst0 h) (lw_S q1830 q1831 q58 q1832) pd_X4_isIn ⟨Nat.le_of_ble_eq_true rfl, Nat.le_of_ble_eq_true rfl⟩ rfl rfl (Nat.le_of_ble_eq_true rfl) dX4_note_87 rfl rfl hk (Nat.zero_add _) (fun v9 M17 H locs hP S hk => ?_) (fun E q ce M9 H9 locs9 hX => hX.elim)
      obtain ⟨v18, rfl, h⟩ := hP
      refine W.eq (g2 := F0 m 90 ls [.int v18, .int 0, .ref a0]) rfl ?_
      refine lv_if_eq (tgt := 110) hx hb dX4_note_90 (by decide) (fun c9 => ?_) (fun c9 => ?_)
      · have h := h.1 c9
        exact j110 _ _ _ _ _ _ _ _ _ _ _ _ _ _ hk S (lv_sub hl [0, 1, 2, 3, 4, 5] rfl) h
      · have h := h.2 c9
        refine lv_aload_n hx hb dX4_note_93 rfl (lv_at hl 0 rfl) ?_
        refine mm_gfa C S (ci := 3) (k := 26) rfl in_X4 (by decide) q1696 (fun _ h9 => h9) dX4_note_94 h (fun u19 h => ?_)
        refine lv_iload hx hb dX4_note_97 (lv_at hl 6 rfl) ?_
        refine mm_aald C S (t := 8) rfl rfl h dX4_note_99 (fun u20 h => ?_)
        refine lv_iload_n hx hb dX4_note_100 rfl (lv_at hl 2 rfl) ?_
        refine mm_iald C S h dX4_note_101 (fun v21 h => ?_)
        refine lv_iload_n hx hb dX4_note_102 rfl (lv_at hl 3 rfl) ?_
        refine mm_S (As := [.int v21, .int x3]) (rest := [.int 0, .ref a0]) C S hl.1 (wk_X4_distance hst0 h) (lw_S q1965 q1966 q58 q1967) pd_X4_distance ⟨Nat.le_of_ble_eq_true rfl, Nat.le_of_ble_eq_true rfl⟩ rfl rfl (Nat.le_of_ble_eq_true rfl) dX4_note_103 rfl rfl hk (Nat.zero_add _) (fun v9 M22 H locs hP S hk => ?_) (fun E q ce M9 H9 locs9 hX => hX.elim)
        obtain ⟨v23, rfl, h⟩ := hP
        refine W.eq (g2 := F0 m 106 ls [.int v23, .int 0, .ref a0]) rfl ?_
        refine lv_iconst (v := 3) hx hb dX4_note_106 (by decide) ?_
        refine lv_icmp_le (tgt := 114) hx hb dX4_note_107 (by decide) (fun c9 => ?_) (fun c9 => ?_)
        · have h := h.1 c9
          refine lv_iconst (v := 0) hx hb dX4_note_114 (by decide) ?_
          exact j115 _ _ _ _ _ _ _ _ _ _ _ _ _ _ _ hk S (lv_sub hl [0, 1, 2, 3, 4, 5] rfl) h
        · have h := h.2 c9
          exact j110 _ _ _ _ _ _ _ _ _ _ _ _ _ _ hk S (lv_sub hl [0, 1, 2, 3, 4, 5] rfl) h
    · have h := h.2 c9
      refine lv_iconst (v := 0) hx hb dX4_note_78 (by decide) ?_
      exact mm_iret C S hr (Nat.le_trans (Nat.le_add_right _ _) hk) dX4_note_79 h
  have j29 : ∀ (k r : Nat) (M : mM) (H : Heap) (locs : List Loc) (ls : Array Slot) (a0 : Nat) (x1 : Int32) (x2 : Int32) (x3 : Int32) (x4 : Int32) (x5 : Int32) (s0 : Nat) (s1 : Int32), k + r ≤ b → mW G A s M H locs → lv_has ls 7 [(0, .ref a0), (1, .int x1), (2, .int x2), (3, .int x3), (4, .int x4), (5, .int x5)] → wb_X4_note_29 G P r M a0 x1 x2 x3 x4 x5 s0 s1 → W p l e (mRm 12 b) s m args below meth c H locs k k (vx_MQ below (mQ G A (mRi P)) (mXC G A (fun _ _ _ => False)) args s b b A) (F0 m 29 ls [.int s1, .ref s0]) := by
    intro k r M H locs ls a0 x1 x2 x3 x4 x5 s0 s1 hk S hl h
    unfold wb_X4_note_29 at h
    refine lv_iconst (v := 0) hx hb dX4_note_29 (by decide) ?_
    refine lv_iconst (v := 0) hx hb dX4_note_30 (by decide) ?_
    obtain ⟨hI, h⟩ := h
    refine mm_V (As := [.int s1, .int 0, .int 0]) (rest := []) C S hl.1 (wk_X4_fails hst0 h) (T := TX4) rfl hI (lw_V q1836 q1838 qs22 q58 q1839) rfl pd_X4_fails ⟨Nat.le_of_ble_eq_true rfl, Nat.le_of_ble_eq_true rfl⟩ rfl rfl (Nat.le_of_ble_eq_true rfl) dX4_note_31 rfl rfl hk (Nat.zero_add _) (fun v9 M7 H locs hP S hk => ?_) (fun E q ce M9 H9 locs9 hX => hX.elim)
    obtain ⟨v8, rfl, h⟩ := hP
    refine W.eq (g2 := F0 m 34 ls [.int v8]) rfl ?_
    refine lv_if_eq (tgt := 39) hx hb dX4_note_34 (by decide) (fun c9 => ?_) (fun c9 => ?_)
    · have h := h.1 c9
      refine lv_aload_n hx hb dX4_note_39 rfl (lv_at hl 0 rfl) ?_
      refine mm_gfa C S (ci := 3) (k := 31) rfl in_X4 (by decide) q1701 (fun _ h9 => h9) dX4_note_40 h (fun u9 h => ?_)
      refine lv_iload_n hx hb dX4_note_43 rfl (lv_at hl 1 rfl) ?_
      refine mm_iald C S h dX4_note_44 (fun v10 h => ?_)
      refine lv_istore (lv' := [(6, .int v10), (0, .ref a0), (1, .int x1), (2, .int x2), (3, .int x3), (4, .int x4), (5, .int x5)]) hx hb dX4_note_45 hl (by decide) rfl (fun ls hl => ?_)
      refine lv_aload_n hx hb dX4_note_47 rfl (lv_at hl 1 rfl) ?_
      refine lv_iload_n hx hb dX4_note_48 rfl (lv_at hl 3 rfl) ?_
      refine lv_iconst (v := 0) hx hb dX4_note_49 (by decide) ?_
      refine lv_aload_n hx hb dX4_note_50 rfl (lv_at hl 1 rfl) ?_
      refine mm_gfa C S (ci := 3) (k := 23) rfl in_X4 (by decide) q1693 (fun _ h9 => h9) dX4_note_51 h (fun u11 h => ?_)
      refine lv_iload hx hb dX4_note_54 (lv_at hl 0 rfl) ?_
      refine mm_iald C S h dX4_note_56 (fun v12 h => ?_)
      refine lv_iconst (v := 1) hx hb dX4_note_57 (by decide) ?_
      refine lv_isub hx hb dX4_note_58 ?_
      refine mm_S (As := [.int x2, .int 0, .int (v12 - 1)]) (rest := [.ref a0]) C S hl.1 (wk_X4_isIn hst0 h) (lw_S q1830 q1831 q58 q1832) pd_X4_isIn ⟨Nat.le_of_ble_eq_true rfl, Nat.le_of_ble_eq_true rfl⟩ rfl rfl (Nat.le_of_ble_eq_true rfl) dX4_note_59 rfl rfl hk (Nat.zero_add _) (fun v9 M13 H locs hP S hk => ?_) (fun E q ce M9 H9 locs9 hX => hX.elim)
      obtain ⟨v14, rfl, h⟩ := hP
      refine W.eq (g2 := F0 m 62 ls [.int v14, .ref a0]) rfl ?_
      refine lv_if_ne (tgt := 69) hx hb dX4_note_62 (by decide) (fun c9 => ?_) (fun c9 => ?_)
      · have h := h.1 c9
        refine lv_iconst (v := 0) hx hb dX4_note_69 (by decide) ?_
        exact j70 _ _ _ _ _ _ _ _ _ _ _ _ _ _ _ hk S (lv_sub hl [1, 2, 3, 4, 5, 6, 0] rfl) h
      · have h := h.2 c9
        refine lv_iconst (v := 1) hx hb dX4_note_65 (by decide) ?_
        refine lv_goto (tgt := 70) hx hb dX4_note_66 (by decide) ?_
        exact j70 _ _ _ _ _ _ _ _ _ _ _ _ _ _ _ hk S (lv_sub hl [1, 2, 3, 4, 5, 6, 0] rfl) h
    · have h := h.2 c9
      refine lv_iconst (v := 0) hx hb dX4_note_37 (by decide) ?_
      exact mm_iret C S hr (Nat.le_trans (Nat.le_add_right _ _) hk) dX4_note_38 h
  have j24 : ∀ (k r : Nat) (M : mM) (H : Heap) (locs : List Loc) (ls : Array Slot) (a0 : Nat) (x1 : Int32) (x2 : Int32) (x3 : Int32) (x4 : Int32) (x5 : Int32) (s0 : Nat), k + r ≤ b → mW G A s M H locs → lv_has ls 7 [(0, .ref a0), (1, .int x1), (2, .int x2), (3, .int x3), (4, .int x4), (5, .int x5)] → wb_X4_note_24 G P r M a0 x1 x2 x3 x4 x5 s0 → W p l e (mRm 12 b) s m args below meth c H locs k k (vx_MQ below (mQ G A (mRi P)) (mXC G A (fun _ _ _ => False)) args s b b A) (F0 m 24 ls [.ref s0]) := by
    intro k r M H locs ls a0 x1 x2 x3 x4 x5 s0 hk S hl h
    unfold wb_X4_note_24 at h
    refine lv_iconst (v := 1) hx hb dX4_note_24 (by decide) ?_
    refine lv_goto (tgt := 29) hx hb dX4_note_25 (by decide) ?_
    exact j29 _ _ _ _ _ _ _ _ _ _ _ _ _ _ hk S hl h
  unfold wp_X4_note at h
  refine lv_aload_n hx hb dX4_note_0 rfl (lv_at hl 0 rfl) ?_
  refine lv_aload_n hx hb dX4_note_1 rfl (lv_at hl 0 rfl) ?_
  refine lv_iload_n hx hb dX4_note_2 rfl (lv_at hl 1 rfl) ?_
  obtain ⟨hI, h⟩ := h
  refine mm_V (As := [.int x1]) (rest := [.ref a0]) C S hl.1 (wk_X4_noWalk hst0 h) (T := TX4) rfl hI (lw_V q1997 q1999 qs41 q58 q2000) rfl pd_X4_noWalk ⟨Nat.le_of_ble_eq_true rfl, Nat.le_of_ble_eq_true rfl⟩ rfl rfl (Nat.le_of_ble_eq_true rfl) dX4_note_3 rfl rfl hk (Nat.zero_add _) (fun v9 M1 H locs hP S hk => ?_) (fun E q ce M9 H9 locs9 hX => hX.elim)
  obtain ⟨v2, rfl, h⟩ := hP
  refine W.eq (g2 := F0 m 6 ls [.int v2, .ref a0]) rfl ?_
  refine lv_if_ne (tgt := 24) hx hb dX4_note_6 (by decide) (fun c9 => ?_) (fun c9 => ?_)
  · have h := h.1 c9
    exact j24 _ _ _ _ _ _ _ _ _ _ _ _ _ hk S hl h
  · have h := h.2 c9
    refine lv_iload_n hx hb dX4_note_9 rfl (lv_at hl 3 rfl) ?_
    refine mm_S (As := [.int x3]) (rest := [.ref a0]) C S hl.1 (wk_X4_noCell hst0 h) (lw_S q1827 q1828 q58 q1829) pd_X4_noCell ⟨Nat.le_of_ble_eq_true rfl, Nat.le_of_ble_eq_true rfl⟩ rfl rfl (Nat.le_of_ble_eq_true rfl) dX4_note_10 rfl rfl hk (Nat.zero_add _) (fun v9 M3 H locs hP S hk => ?_) (fun E q ce M9 H9 locs9 hX => hX.elim)
    obtain ⟨v4, rfl, h⟩ := hP
    refine W.eq (g2 := F0 m 13 ls [.int v4, .ref a0]) rfl ?_
    refine lv_if_ne (tgt := 24) hx hb dX4_note_13 (by decide) (fun c9 => ?_) (fun c9 => ?_)
    · have h := h.1 c9
      exact j24 _ _ _ _ _ _ _ _ _ _ _ _ _ hk S hl h
    · have h := h.2 c9
      refine lv_iload hx hb dX4_note_16 (lv_at hl 4 rfl) ?_
      refine mm_S (As := [.int x4]) (rest := [.ref a0]) C S hl.1 (wk_X4_noKind hst0 h) (lw_S q1856 q1857 q58 q1858) pd_X4_noKind ⟨Nat.le_of_ble_eq_true rfl, Nat.le_of_ble_eq_true rfl⟩ rfl rfl (Nat.le_of_ble_eq_true rfl) dX4_note_18 rfl rfl hk (Nat.zero_add _) (fun v9 M5 H locs hP S hk => ?_) (fun E q ce M9 H9 locs9 hX => hX.elim)
      obtain ⟨v6, rfl, h⟩ := hP
      refine W.eq (g2 := F0 m 21 ls [.int v6, .ref a0]) rfl ?_
      refine lv_if_eq (tgt := 28) hx hb dX4_note_21 (by decide) (fun c9 => ?_) (fun c9 => ?_)
      · have h := h.1 c9
        refine lv_iconst (v := 0) hx hb dX4_note_28 (by decide) ?_
        exact j29 _ _ _ _ _ _ _ _ _ _ _ _ _ _ hk S hl h
      · have h := h.2 c9
        exact j24 _ _ _ _ _ _ _ _ _ _ _ _ _ hk S hl h
/-! X4_numbers: level 12 -/
def wb_X4_numbers_76 (G : mG) (P : Int32 → mM → Prop) (r : Nat) (M : mM) (s0 : Int32) : Prop :=
  P s0 M
def wb_X4_numbers_37 (G : mG) (P : Int32 → mM → Prop) (r : Nat) (M : mM) (a0 : Nat) (x1 : Int32) (x2 : Int32) (x3 : Int32) (x4 : Int32) (s0 : Nat) (s1 : Int32) (s2 : Int32) : Prop :=
  isc M s0 3 ∧ (wp_X4_fails G 0 (fun v9 M8 => (v9 = 0 → isc M8 a0 3 ∧ (wp_X4_find G 0 (fun v11 M10 => (¬ v11 = 0 → (x4 = 0 → gfi M10 a0 3 47 fun v12 => wb_X4_numbers_76 G P r M10 v12) ∧ (¬ x4 = 0 → gfi M10 a0 3 48 fun v13 => wb_X4_numbers_76 G P r M10 v13)) ∧ (v11 = 0 → wb_X4_numbers_76 G P r M10 (-1))) M8 a0 x1 x2 x3)) ∧ (¬ v9 = 0 → P 0 M8)) M s0 s1 s2 0)
def wb_X4_numbers_20 (G : mG) (P : Int32 → mM → Prop) (r : Nat) (M : mM) (a0 : Nat) (x1 : Int32) (x2 : Int32) (x3 : Int32) (x4 : Int32) (s0 : Nat) (s1 : Int32) : Prop :=
  gfi M a0 3 2 fun v5 => wp_X4_isIn G 0 (fun v7 M6 => (¬ v7 = 0 → wb_X4_numbers_37 G P r M6 a0 x1 x2 x3 x4 s0 s1 0) ∧ (v7 = 0 → wb_X4_numbers_37 G P r M6 a0 x1 x2 x3 x4 s0 s1 1)) M x3 0 v5
def wb_X4_numbers_15 (G : mG) (P : Int32 → mM → Prop) (r : Nat) (M : mM) (a0 : Nat) (x1 : Int32) (x2 : Int32) (x3 : Int32) (x4 : Int32) (s0 : Nat) : Prop :=
  wb_X4_numbers_20 G P r M a0 x1 x2 x3 x4 s0 1
def wp_X4_numbers (G : mG) (b : Nat) (P : Int32 → mM → Prop) (M : mM) (a0 : Nat) (x1 : Int32) (x2 : Int32) (x3 : Int32) (x4 : Int32) : Prop :=
  wp_X4_noCell G 0 (fun v2 M1 => (¬ v2 = 0 → wb_X4_numbers_15 G P b M1 a0 x1 x2 x3 x4 a0) ∧ (v2 = 0 → wp_X4_noKind G 0 (fun v4 M3 => (v4 = 0 → wb_X4_numbers_20 G P b M3 a0 x1 x2 x3 x4 a0 0) ∧ (¬ v4 = 0 → wb_X4_numbers_15 G P b M3 a0 x1 x2 x3 x4 a0)) M1 x2)) M x1
set_option maxHeartbeats 4000000 in
set_option maxRecDepth 100000 in
theorem wk_X4_numbers {l : Launch} (hst0 : l.stackTraces = false) {G : mG} {b : Nat} {P : Int32 → mM → Prop} {M : mM} {a0 : Nat} {x1 : Int32} {x2 : Int32} {x3 : Int32} {x4 : Int32} (h : wp_X4_numbers G b P M a0 x1 x2 x3 x4) : mMet l yX4_numbers (ws_ yX4_numbers cX4_numbers 5 (Option.some Jvm.ClassFile.FieldType.int)) 12 b G [.ref a0, .int x1, .int x2, .int x3, .int x4] M (mRi P) (fun _ _ _ => False) := by
  refine mm_met hst0 (by decide) (Nat.le_of_ble_eq_true rfl) ?_
  intro p e s m args below meth c ls C hr hnt hnm hl S
  have hl : lv_has ls 5 [(0, .ref a0), (1, .int x1), (2, .int x2), (3, .int x3), (4, .int x4)] := hl
  generalize mA M s.heap.size = A at C S ⊢
  have hx := C.hx
  have hb := C.hb
  have hk : 0 + b ≤ b := Nat.le_of_eq (Nat.zero_add b)
  have j76 : ∀ (k r : Nat) (M : mM) (H : Heap) (locs : List Loc) (ls : Array Slot) (s0 : Int32), k + r ≤ b → mW G A s M H locs → lv_has ls 5 [] → wb_X4_numbers_76 G P r M s0 → W p l e (mRm 12 b) s m args below meth c H locs k k (vx_MQ below (mQ G A (mRi P)) (mXC G A (fun _ _ _ => False)) args s b b A) (F0 m 76 ls [.int s0]) := by
    intro k r M H locs ls s0 hk S hl h
    unfold wb_X4_numbers_76 at h
    exact mm_iret C S hr (Nat.le_trans (Nat.le_add_right _ _) hk) dX4_numbers_76 h
  have j37 : ∀ (k r : Nat) (M : mM) (H : Heap) (locs : List Loc) (ls : Array Slot) (a0 : Nat) (x1 : Int32) (x2 : Int32) (x3 : Int32) (x4 : Int32) (s0 : Nat) (s1 : Int32) (s2 : Int32), k + r ≤ b → mW G A s M H locs → lv_has ls 5 [(0, .ref a0), (1, .int x1), (2, .int x2), (3, .int x3), (4, .int x4)] → wb_X4_numbers_37 G P r M a0 x1 x2 x3 x4 s0 s1 s2 → W p l e (mRm 12 b) s m args below meth c H locs k k (vx_MQ below (mQ G A (mRi P)) (mXC G A (fun _ _ _ => False)) args s b b A) (F0 m 37 ls [.int s2, .int s1, .ref s0]) := by
    intro k r M H locs ls a0 x1 x2 x3 x4 s0 s1 s2 hk S hl h
    unfold wb_X4_numbers_37 at h
    refine lv_iconst (v := 0) hx hb dX4_numbers_37 (by decide) ?_
    obtain ⟨hI, h⟩ := h
    refine mm_V (As := [.int s1, .int s2, .int 0]) (rest := []) C S hl.1 (wk_X4_fails hst0 h) (T := TX4) rfl hI (lw_V q1836 q1838 qs22 q58 q1839) rfl pd_X4_fails ⟨Nat.le_of_ble_eq_true rfl, Nat.le_of_ble_eq_true rfl⟩ rfl rfl (Nat.le_of_ble_eq_true rfl) dX4_numbers_38 rfl rfl hk (Nat.zero_add _) (fun v9 M8 H locs hP S hk => ?_) (fun E q ce M9 H9 locs9 hX => hX.elim)
    obtain ⟨v9, rfl, h⟩ := hP
    refine W.eq (g2 := F0 m 41 ls [.int v9]) rfl ?_
    refine lv_if_eq (tgt := 46) hx hb dX4_numbers_41 (by decide) (fun c9 => ?_) (fun c9 => ?_)
    · have h := h.1 c9
      refine lv_aload_n hx hb dX4_numbers_46 rfl (lv_at hl 0 rfl) ?_
      refine lv_iload_n hx hb dX4_numbers_47 rfl (lv_at hl 1 rfl) ?_
      refine lv_iload_n hx hb dX4_numbers_48 rfl (lv_at hl 2 rfl) ?_
      refine lv_iload_n hx hb dX4_numbers_49 rfl (lv_at hl 3 rfl) ?_
      obtain ⟨hI, h⟩ := h
      refine mm_V (As := [.int x1, .int x2, .int x3]) (rest := []) C S hl.1 (wk_X4_find hst0 h) (T := TX4) rfl hI (lw_V q1973 q1975 qs39 q58 q1976) rfl pd_X4_find ⟨Nat.le_of_ble_eq_true rfl, Nat.le_of_ble_eq_true rfl⟩ rfl rfl (Nat.le_of_ble_eq_true rfl) dX4_numbers_50 rfl rfl hk (Nat.zero_add _) (fun v9 M10 H locs hP S hk => ?_) (fun E q ce M9 H9 locs9 hX => hX.elim)
      obtain ⟨v11, rfl, h⟩ := hP
      refine W.eq (g2 := F0 m 53 ls [.int v11]) rfl ?_
      refine lv_if_ne (tgt := 60) hx hb dX4_numbers_53 (by decide) (fun c9 => ?_) (fun c9 => ?_)
      · have h := h.1 c9
        refine lv_iload hx hb dX4_numbers_60 (lv_at hl 4 rfl) ?_
        refine lv_if_eq (tgt := 72) hx hb dX4_numbers_62 (by decide) (fun c9 => ?_) (fun c9 => ?_)
        · have h := h.1 c9
          refine lv_aload_n hx hb dX4_numbers_72 rfl (lv_at hl 0 rfl) ?_
          refine mm_gfi C S (ci := 3) (k := 47) rfl in_X4 (by decide) q1717 (fun _ h9 => h9) dX4_numbers_73 h (fun v12 h => ?_)
          exact j76 _ _ _ _ _ _ _ hk S (lv_sub hl [] rfl) h
        · have h := h.2 c9
          refine lv_aload_n hx hb dX4_numbers_65 rfl (lv_at hl 0 rfl) ?_
          refine mm_gfi C S (ci := 3) (k := 48) rfl in_X4 (by decide) q1718 (fun _ h9 => h9) dX4_numbers_66 h (fun v13 h => ?_)
          refine lv_goto (tgt := 76) hx hb dX4_numbers_69 (by decide) ?_
          exact j76 _ _ _ _ _ _ _ hk S (lv_sub hl [] rfl) h
      · have h := h.2 c9
        refine lv_iconst (v := (-1)) hx hb dX4_numbers_56 (by decide) ?_
        refine lv_goto (tgt := 76) hx hb dX4_numbers_57 (by decide) ?_
        exact j76 _ _ _ _ _ _ _ hk S (lv_sub hl [] rfl) h
    · have h := h.2 c9
      refine lv_iconst (v := 0) hx hb dX4_numbers_44 (by decide) ?_
      exact mm_iret C S hr (Nat.le_trans (Nat.le_add_right _ _) hk) dX4_numbers_45 h
  have j20 : ∀ (k r : Nat) (M : mM) (H : Heap) (locs : List Loc) (ls : Array Slot) (a0 : Nat) (x1 : Int32) (x2 : Int32) (x3 : Int32) (x4 : Int32) (s0 : Nat) (s1 : Int32), k + r ≤ b → mW G A s M H locs → lv_has ls 5 [(0, .ref a0), (1, .int x1), (2, .int x2), (3, .int x3), (4, .int x4)] → wb_X4_numbers_20 G P r M a0 x1 x2 x3 x4 s0 s1 → W p l e (mRm 12 b) s m args below meth c H locs k k (vx_MQ below (mQ G A (mRi P)) (mXC G A (fun _ _ _ => False)) args s b b A) (F0 m 20 ls [.int s1, .ref s0]) := by
    intro k r M H locs ls a0 x1 x2 x3 x4 s0 s1 hk S hl h
    unfold wb_X4_numbers_20 at h
    refine lv_iload_n hx hb dX4_numbers_20 rfl (lv_at hl 3 rfl) ?_
    refine lv_iconst (v := 0) hx hb dX4_numbers_21 (by decide) ?_
    refine lv_aload_n hx hb dX4_numbers_22 rfl (lv_at hl 0 rfl) ?_
    refine mm_gfi C S (ci := 3) (k := 2) rfl in_X4 (by decide) q1672 (fun _ h9 => h9) dX4_numbers_23 h (fun v5 h => ?_)
    refine mm_S (As := [.int x3, .int 0, .int v5]) (rest := [.int s1, .ref s0]) C S hl.1 (wk_X4_isIn hst0 h) (lw_S q1830 q1831 q58 q1832) pd_X4_isIn ⟨Nat.le_of_ble_eq_true rfl, Nat.le_of_ble_eq_true rfl⟩ rfl rfl (Nat.le_of_ble_eq_true rfl) dX4_numbers_26 rfl rfl hk (Nat.zero_add _) (fun v9 M6 H locs hP S hk => ?_) (fun E q ce M9 H9 locs9 hX => hX.elim)
    obtain ⟨v7, rfl, h⟩ := hP
    refine W.eq (g2 := F0 m 29 ls [.int v7, .int s1, .ref s0]) rfl ?_
    refine lv_if_ne (tgt := 36) hx hb dX4_numbers_29 (by decide) (fun c9 => ?_) (fun c9 => ?_)
    · have h := h.1 c9
      refine lv_iconst (v := 0) hx hb dX4_numbers_36 (by decide) ?_
      exact j37 _ _ _ _ _ _ _ _ _ _ _ _ _ _ hk S hl h
    · have h := h.2 c9
      refine lv_iconst (v := 1) hx hb dX4_numbers_32 (by decide) ?_
      refine lv_goto (tgt := 37) hx hb dX4_numbers_33 (by decide) ?_
      exact j37 _ _ _ _ _ _ _ _ _ _ _ _ _ _ hk S hl h
  have j15 : ∀ (k r : Nat) (M : mM) (H : Heap) (locs : List Loc) (ls : Array Slot) (a0 : Nat) (x1 : Int32) (x2 : Int32) (x3 : Int32) (x4 : Int32) (s0 : Nat), k + r ≤ b → mW G A s M H locs → lv_has ls 5 [(0, .ref a0), (1, .int x1), (2, .int x2), (3, .int x3), (4, .int x4)] → wb_X4_numbers_15 G P r M a0 x1 x2 x3 x4 s0 → W p l e (mRm 12 b) s m args below meth c H locs k k (vx_MQ below (mQ G A (mRi P)) (mXC G A (fun _ _ _ => False)) args s b b A) (F0 m 15 ls [.ref s0]) := by
    intro k r M H locs ls a0 x1 x2 x3 x4 s0 hk S hl h
    unfold wb_X4_numbers_15 at h
    refine lv_iconst (v := 1) hx hb dX4_numbers_15 (by decide) ?_
    refine lv_goto (tgt := 20) hx hb dX4_numbers_16 (by decide) ?_
    exact j20 _ _ _ _ _ _ _ _ _ _ _ _ _ hk S hl h
  unfold wp_X4_numbers at h
  refine lv_aload_n hx hb dX4_numbers_0 rfl (lv_at hl 0 rfl) ?_
  refine lv_iload_n hx hb dX4_numbers_1 rfl (lv_at hl 1 rfl) ?_
  refine mm_S (As := [.int x1]) (rest := [.ref a0]) C S hl.1 (wk_X4_noCell hst0 h) (lw_S q1827 q1828 q58 q1829) pd_X4_noCell ⟨Nat.le_of_ble_eq_true rfl, Nat.le_of_ble_eq_true rfl⟩ rfl rfl (Nat.le_of_ble_eq_true rfl) dX4_numbers_2 rfl rfl hk (Nat.zero_add _) (fun v9 M1 H locs hP S hk => ?_) (fun E q ce M9 H9 locs9 hX => hX.elim)
  obtain ⟨v2, rfl, h⟩ := hP
  refine W.eq (g2 := F0 m 5 ls [.int v2, .ref a0]) rfl ?_
  refine lv_if_ne (tgt := 15) hx hb dX4_numbers_5 (by decide) (fun c9 => ?_) (fun c9 => ?_)
  · have h := h.1 c9
    exact j15 _ _ _ _ _ _ _ _ _ _ _ _ hk S hl h
  · have h := h.2 c9
    refine lv_iload_n hx hb dX4_numbers_8 rfl (lv_at hl 2 rfl) ?_
    refine mm_S (As := [.int x2]) (rest := [.ref a0]) C S hl.1 (wk_X4_noKind hst0 h) (lw_S q1856 q1857 q58 q1858) pd_X4_noKind ⟨Nat.le_of_ble_eq_true rfl, Nat.le_of_ble_eq_true rfl⟩ rfl rfl (Nat.le_of_ble_eq_true rfl) dX4_numbers_9 rfl rfl hk (Nat.zero_add _) (fun v9 M3 H locs hP S hk => ?_) (fun E q ce M9 H9 locs9 hX => hX.elim)
    obtain ⟨v4, rfl, h⟩ := hP
    refine W.eq (g2 := F0 m 12 ls [.int v4, .ref a0]) rfl ?_
    refine lv_if_eq (tgt := 19) hx hb dX4_numbers_12 (by decide) (fun c9 => ?_) (fun c9 => ?_)
    · have h := h.1 c9
      refine lv_iconst (v := 0) hx hb dX4_numbers_19 (by decide) ?_
      exact j20 _ _ _ _ _ _ _ _ _ _ _ _ _ hk S hl h
    · have h := h.2 c9
      exact j15 _ _ _ _ _ _ _ _ _ _ _ _ hk S hl h
/-! X4_pass: level 12 -/
def wb_X4_pass_246 (G : mG) (P : Int32 → mM → Prop) (K57 : Nat → mM → Nat → Int32 → Int32 → Prop) (K225 : Nat → mM → Nat → Int32 → Int32 → Int32 → Prop) (r : Nat) (M : mM) (a0 : Nat) (x1 : Int32) (x2 : Int32) (x3 : Int32) : Prop :=
  K225 r M a0 x1 x2 (x3 + 1)
def wl_X4_pass_225 (G : mG) (P : Int32 → mM → Prop) (K57 : Nat → mM → Nat → Int32 → Int32 → Prop) : Nat → Nat → mM → Nat → Int32 → Int32 → Int32 → Prop
  | 0, _, _, _, _, _, _ => False
  | n + 1, r, M, a0, x1, x2, x3 => (36 ≤ x3 → K57 r M a0 x1 (x2 + 1)) ∧ (¬ 36 ≤ x3 → gfa M a0 3 5 fun u38 => ldi M 0 u38 x3 fun v39 => (v39 = (-1) → wb_X4_pass_246 G P K57 (wl_X4_pass_225 G P K57 n) r M a0 x1 x2 x3) ∧ (¬ v39 = (-1) → isc M a0 3 ∧ (wp_X4_grow G 0 (fun M40 => wb_X4_pass_246 G P K57 (wl_X4_pass_225 G P K57 n) r M40 a0 x1 x2 x3) M a0 x3)))
def wb_X4_pass_217 (G : mG) (P : Int32 → mM → Prop) (K57 : Nat → mM → Nat → Int32 → Int32 → Prop) (K105 : Nat → mM → Nat → Int32 → Int32 → Int32 → Prop) (r : Nat) (M : mM) (a0 : Nat) (x1 : Int32) (x2 : Int32) (x3 : Int32) : Prop :=
  K105 r M a0 x1 x2 (x3 + 1)
def wb_X4_pass_177 (G : mG) (P : Int32 → mM → Prop) (K57 : Nat → mM → Nat → Int32 → Int32 → Prop) (K105 : Nat → mM → Nat → Int32 → Int32 → Int32 → Prop) (r : Nat) (M : mM) (a0 : Nat) (x1 : Int32) (x2 : Int32) (x3 : Int32) : Prop :=
  gfa M a0 3 8 fun u41 => gfa M a0 3 14 fun u42 => ldi M 0 u42 x3 fun v43 => ldi M 0 u41 v43 fun v44 => sti M 0 u41 v43 (v44 - 1) fun M45 => gfa M45 a0 3 15 fun u46 => ldi M45 0 u46 x3 fun v47 => (v47 = (-1) → wb_X4_pass_217 G P K57 K105 r M45 a0 x1 x2 x3) ∧ (¬ v47 = (-1) → gfa M45 a0 3 8 fun u48 => gfa M45 a0 3 15 fun u49 => ldi M45 0 u49 x3 fun v50 => ldi M45 0 u48 v50 fun v51 => sti M45 0 u48 v50 (v51 + 1) fun M52 => wb_X4_pass_217 G P K57 K105 r M52 a0 x1 x2 x3)
def wl_X4_pass_105 (G : mG) (P : Int32 → mM → Prop) (K57 : Nat → mM → Nat → Int32 → Int32 → Prop) : Nat → Nat → mM → Nat → Int32 → Int32 → Int32 → Prop
  | 0, _, _, _, _, _, _ => False
  | n + 1, r, M, a0, x1, x2, x3 => gfi M a0 3 13 fun v19 => (v19 ≤ x3 → ∃ n225, wl_X4_pass_225 G P K57 n225 r M a0 x1 x2 0) ∧ (¬ v19 ≤ x3 → gfa M a0 3 17 fun u20 => ldi M 1 u20 x3 fun v21 => (v21 = 0 → wb_X4_pass_217 G P K57 (wl_X4_pass_105 G P K57 n) r M a0 x1 x2 x3) ∧ (¬ v21 = 0 → gfa M a0 3 8 fun u22 => gfa M a0 3 14 fun u23 => ldi M 0 u23 x3 fun v24 => ldi M 0 u22 v24 fun v25 => gfa M a0 3 16 fun u26 => ldi M 0 u26 x3 fun v27 => (v25 ≤ v27 → wb_X4_pass_217 G P K57 (wl_X4_pass_105 G P K57 n) r M a0 x1 x2 x3) ∧ (¬ v25 ≤ v27 → gfa M a0 3 15 fun u28 => ldi M 0 u28 x3 fun v29 => (v29 = (-1) → wb_X4_pass_177 G P K57 (wl_X4_pass_105 G P K57 n) r M a0 x1 x2 x3) ∧ (¬ v29 = (-1) → gfa M a0 3 8 fun u30 => gfa M a0 3 14 fun u31 => ldi M 0 u31 x3 fun v32 => ldi M 0 u30 v32 fun v33 => gfa M a0 3 8 fun u34 => gfa M a0 3 15 fun u35 => ldi M 0 u35 x3 fun v36 => ldi M 0 u34 v36 fun v37 => (v33 ≤ v37 → wb_X4_pass_217 G P K57 (wl_X4_pass_105 G P K57 n) r M a0 x1 x2 x3) ∧ (¬ v33 ≤ v37 → wb_X4_pass_177 G P K57 (wl_X4_pass_105 G P K57 n) r M a0 x1 x2 x3)))))
def wl_X4_pass_64 (G : mG) (P : Int32 → mM → Prop) (K57 : Nat → mM → Nat → Int32 → Int32 → Prop) : Nat → Nat → mM → Nat → Int32 → Int32 → Int32 → Prop
  | 0, _, _, _, _, _, _ => False
  | n + 1, r, M, a0, x1, x2, x3 => (4 ≤ x3 → ∃ n105, wl_X4_pass_105 G P K57 n105 r M a0 x1 x2 0) ∧ (¬ 4 ≤ x3 → gfa M a0 3 8 fun u11 => gfa M a0 3 8 fun u12 => ldi M 0 u12 x3 fun v13 => gfa M a0 3 9 fun u14 => ldi M 0 u14 x3 fun v15 => ∀ g16 : Int32, g16 = (if (v13 + v15) < (9 : Int32) then (v13 + v15) else (9 : Int32)) → ∀ g17 : Int32, g17 = (if (0 : Int32) < g16 then g16 else (0 : Int32)) → sti M 0 u11 x3 g17 fun M18 => (wl_X4_pass_64 G P K57 n) r M18 a0 x1 x2 (x3 + 1))
def wl_X4_pass_57 (G : mG) (P : Int32 → mM → Prop) : Nat → Nat → mM → Nat → Int32 → Int32 → Prop
  | 0, _, _, _, _, _ => False
  | n + 1, r, M, a0, x1, x2 => (x1 ≤ x2 → gfi M a0 3 1 fun v8 => pfi M a0 3 1 (v8 + x1) fun M9 => gfi M9 a0 3 1 fun v10 => P v10 M9) ∧ (¬ x1 ≤ x2 → ∃ n64, wl_X4_pass_64 G P (wl_X4_pass_57 G P n) n64 r M a0 x1 x2 0)
def wb_X4_pass_46 (G : mG) (P : Int32 → mM → Prop) (r : Nat) (M : mM) (a0 : Nat) (x1 : Int32) (s0 : Nat) (s1 : Int32) (s2 : Int32) : Prop :=
  isc M s0 3 ∧ (wp_X4_fails G 0 (fun v7 M6 => (v7 = 0 → ∃ n57, wl_X4_pass_57 G P n57 r M6 a0 x1 0) ∧ (¬ v7 = 0 → P 0 M6)) M s0 s1 s2 0)
def wb_X4_pass_17 (G : mG) (P : Int32 → mM → Prop) (r : Nat) (M : mM) (a0 : Nat) (x1 : Int32) (s0 : Nat) (s1 : Int32) : Prop :=
  isc M s0 3 ∧ (wp_X4_fails G 0 (fun v4 M3 => (v4 = 0 → gfi M3 a0 3 1 fun v5 => ((v5 + x1) ≤ 20000 → wb_X4_pass_46 G P r M3 a0 x1 a0 0 0) ∧ (¬ (v5 + x1) ≤ 20000 → wb_X4_pass_46 G P r M3 a0 x1 a0 0 1)) ∧ (¬ v4 = 0 → P 0 M3)) M s0 s1 0 0)
def wp_X4_pass (G : mG) (b : Nat) (P : Int32 → mM → Prop) (M : mM) (a0 : Nat) (x1 : Int32) : Prop :=
  wp_X4_isIn G 0 (fun v2 M1 => (¬ v2 = 0 → wb_X4_pass_17 G P b M1 a0 x1 a0 0) ∧ (v2 = 0 → wb_X4_pass_17 G P b M1 a0 x1 a0 1)) M x1 1 400
set_option maxHeartbeats 4000000 in
set_option maxRecDepth 100000 in
theorem wk_X4_pass {l : Launch} (hst0 : l.stackTraces = false) {G : mG} {b : Nat} {P : Int32 → mM → Prop} {M : mM} {a0 : Nat} {x1 : Int32} (h : wp_X4_pass G b P M a0 x1) : mMet l yX4_pass (ws_ yX4_pass cX4_pass 4 (Option.some Jvm.ClassFile.FieldType.int)) 12 b G [.ref a0, .int x1] M (mRi P) (fun _ _ _ => False) := by
  refine mm_met hst0 (by decide) (Nat.le_of_ble_eq_true rfl) ?_
  intro p e s m args below meth c ls C hr hnt hnm hl S
  have hl : lv_has ls 4 [(0, .ref a0), (1, .int x1)] := hl
  generalize mA M s.heap.size = A at C S ⊢
  have hx := C.hx
  have hb := C.hb
  have hk : 0 + b ≤ b := Nat.le_of_eq (Nat.zero_add b)
  have j57 : ∀ (nf : Nat) (k r : Nat) (M : mM) (H : Heap) (locs : List Loc) (ls : Array Slot) (a0 : Nat) (x1 : Int32) (x2 : Int32), k + r ≤ b → mW G A s M H locs → lv_has ls 4 [(0, .ref a0), (1, .int x1), (2, .int x2)] → wl_X4_pass_57 G P nf r M a0 x1 x2 → W p l e (mRm 12 b) s m args below meth c H locs k k (vx_MQ below (mQ G A (mRi P)) (mXC G A (fun _ _ _ => False)) args s b b A) (F0 m 57 ls []) := by
    intro nf
    induction nf with
    | zero =>
      intro k r M H locs ls a0 x1 x2 hk S hl h
      rw [wl_X4_pass_57] at h
      exact h.elim
    | succ n57 ih57 =>
      have j225 : ∀ (nf : Nat) (k r : Nat) (M : mM) (H : Heap) (locs : List Loc) (ls : Array Slot) (a0 : Nat) (x1 : Int32) (x2 : Int32) (x3 : Int32), k + r ≤ b → mW G A s M H locs → lv_has ls 4 [(0, .ref a0), (1, .int x1), (2, .int x2), (3, .int x3)] → wl_X4_pass_225 G P (wl_X4_pass_57 G P n57) nf r M a0 x1 x2 x3 → W p l e (mRm 12 b) s m args below meth c H locs k k (vx_MQ below (mQ G A (mRi P)) (mXC G A (fun _ _ _ => False)) args s b b A) (F0 m 225 ls []) := by
        intro nf
        induction nf with
        | zero =>
          intro k r M H locs ls a0 x1 x2 x3 hk S hl h
          rw [wl_X4_pass_225] at h
          exact h.elim
        | succ n225 ih225 =>
          have j246 : ∀ (k r : Nat) (M : mM) (H : Heap) (locs : List Loc) (ls : Array Slot) (a0 : Nat) (x1 : Int32) (x2 : Int32) (x3 : Int32), k + r ≤ b → mW G A s M H locs → lv_has ls 4 [(0, .ref a0), (1, .int x1), (2, .int x2), (3, .int x3)] → wb_X4_pass_246 G P (wl_X4_pass_57 G P n57) (wl_X4_pass_225 G P (wl_X4_pass_57 G P n57) n225) r M a0 x1 x2 x3 → W p l e (mRm 12 b) s m args below meth c H locs k k (vx_MQ below (mQ G A (mRi P)) (mXC G A (fun _ _ _ => False)) args s b b A) (F0 m 246 ls []) := by
            intro k r M H locs ls a0 x1 x2 x3 hk S hl h
            unfold wb_X4_pass_246 at h
            refine lv_iinc (v := (x3 + 1)) (lv' := [(3, .int (x3 + 1)), (0, .ref a0), (1, .int x1), (2, .int x2)]) hx hb dX4_pass_246 hl (k := 3) rfl rfl (by decide) rfl (fun ls hl => ?_)
            refine lv_goto (tgt := 225) hx hb dX4_pass_249 (by decide) ?_
            exact ih225 _ _ _ _ _ _ _ _ _ _ hk S (lv_sub hl [1, 2, 3, 0] rfl) h
          intro k r M H locs ls a0 x1 x2 x3 hk S hl h
          rw [wl_X4_pass_225] at h
          refine lv_iload_n hx hb dX4_pass_225 rfl (lv_at hl 3 rfl) ?_
          refine lv_bipush (v := 36) hx hb dX4_pass_226 (by decide) ?_
          refine lv_icmp_ge (tgt := 252) hx hb dX4_pass_228 (by decide) (fun c9 => ?_) (fun c9 => ?_)
          · have h := h.1 c9
            refine lv_iinc (v := (x2 + 1)) (lv' := [(2, .int (x2 + 1)), (0, .ref a0), (1, .int x1), (3, .int x3)]) hx hb dX4_pass_252 hl (k := 2) rfl rfl (by decide) rfl (fun ls hl => ?_)
            refine lv_goto (tgt := 57) hx hb dX4_pass_255 (by decide) ?_
            exact ih57 _ _ _ _ _ _ _ _ _ hk S (lv_sub hl [1, 2, 0] rfl) h
          · have h := h.2 c9
            refine lv_aload_n hx hb dX4_pass_231 rfl (lv_at hl 0 rfl) ?_
            refine mm_gfa C S (ci := 3) (k := 5) rfl in_X4 (by decide) q1675 (fun _ h9 => h9) dX4_pass_232 h (fun u38 h => ?_)
            refine lv_iload_n hx hb dX4_pass_235 rfl (lv_at hl 3 rfl) ?_
            refine mm_iald C S h dX4_pass_236 (fun v39 h => ?_)
            refine lv_iconst (v := (-1)) hx hb dX4_pass_237 (by decide) ?_
            refine lv_icmp_eq (tgt := 246) hx hb dX4_pass_238 (by decide) (fun c9 => ?_) (fun c9 => ?_)
            · have h := h.1 c9
              exact j246 _ _ _ _ _ _ _ _ _ _ hk S hl h
            · have h := h.2 c9
              refine lv_aload_n hx hb dX4_pass_241 rfl (lv_at hl 0 rfl) ?_
              refine lv_iload_n hx hb dX4_pass_242 rfl (lv_at hl 3 rfl) ?_
              obtain ⟨hI, h⟩ := h
              refine mm_V (As := [.int x3]) (rest := []) C S hl.1 (wk_X4_grow hst0 h) (T := TX4) rfl hI (lw_V q1881 q1883 qs25 q58 q1884) rfl pd_X4_grow ⟨Nat.le_of_ble_eq_true rfl, Nat.le_of_ble_eq_true rfl⟩ rfl rfl (Nat.le_of_ble_eq_true rfl) dX4_pass_243 rfl rfl hk (Nat.zero_add _) (fun v9 M40 H locs hP S hk => ?_) (fun E q ce M9 H9 locs9 hX => hX.elim)
              obtain ⟨rfl, h⟩ := hP
              refine W.eq (g2 := F0 m 246 ls []) rfl ?_
              exact j246 _ _ _ _ _ _ _ _ _ _ hk S hl h
      have j105 : ∀ (nf : Nat) (k r : Nat) (M : mM) (H : Heap) (locs : List Loc) (ls : Array Slot) (a0 : Nat) (x1 : Int32) (x2 : Int32) (x3 : Int32), k + r ≤ b → mW G A s M H locs → lv_has ls 4 [(0, .ref a0), (1, .int x1), (2, .int x2), (3, .int x3)] → wl_X4_pass_105 G P (wl_X4_pass_57 G P n57) nf r M a0 x1 x2 x3 → W p l e (mRm 12 b) s m args below meth c H locs k k (vx_MQ below (mQ G A (mRi P)) (mXC G A (fun _ _ _ => False)) args s b b A) (F0 m 105 ls []) := by
        intro nf
        induction nf with
        | zero =>
          intro k r M H locs ls a0 x1 x2 x3 hk S hl h
          rw [wl_X4_pass_105] at h
          exact h.elim
        | succ n105 ih105 =>
          have j217 : ∀ (k r : Nat) (M : mM) (H : Heap) (locs : List Loc) (ls : Array Slot) (a0 : Nat) (x1 : Int32) (x2 : Int32) (x3 : Int32), k + r ≤ b → mW G A s M H locs → lv_has ls 4 [(0, .ref a0), (1, .int x1), (2, .int x2), (3, .int x3)] → wb_X4_pass_217 G P (wl_X4_pass_57 G P n57) (wl_X4_pass_105 G P (wl_X4_pass_57 G P n57) n105) r M a0 x1 x2 x3 → W p l e (mRm 12 b) s m args below meth c H locs k k (vx_MQ below (mQ G A (mRi P)) (mXC G A (fun _ _ _ => False)) args s b b A) (F0 m 217 ls []) := by
            intro k r M H locs ls a0 x1 x2 x3 hk S hl h
            unfold wb_X4_pass_217 at h
            refine lv_iinc (v := (x3 + 1)) (lv' := [(3, .int (x3 + 1)), (0, .ref a0), (1, .int x1), (2, .int x2)]) hx hb dX4_pass_217 hl (k := 3) rfl rfl (by decide) rfl (fun ls hl => ?_)
            refine lv_goto (tgt := 105) hx hb dX4_pass_220 (by decide) ?_
            exact ih105 _ _ _ _ _ _ _ _ _ _ hk S (lv_sub hl [1, 2, 3, 0] rfl) h
          have j177 : ∀ (k r : Nat) (M : mM) (H : Heap) (locs : List Loc) (ls : Array Slot) (a0 : Nat) (x1 : Int32) (x2 : Int32) (x3 : Int32), k + r ≤ b → mW G A s M H locs → lv_has ls 4 [(0, .ref a0), (1, .int x1), (2, .int x2), (3, .int x3)] → wb_X4_pass_177 G P (wl_X4_pass_57 G P n57) (wl_X4_pass_105 G P (wl_X4_pass_57 G P n57) n105) r M a0 x1 x2 x3 → W p l e (mRm 12 b) s m args below meth c H locs k k (vx_MQ below (mQ G A (mRi P)) (mXC G A (fun _ _ _ => False)) args s b b A) (F0 m 177 ls []) := by
            intro k r M H locs ls a0 x1 x2 x3 hk S hl h
            unfold wb_X4_pass_177 at h
            refine lv_aload_n hx hb dX4_pass_177 rfl (lv_at hl 0 rfl) ?_
            refine mm_gfa C S (ci := 3) (k := 8) rfl in_X4 (by decide) q1678 (fun _ h9 => h9) dX4_pass_178 h (fun u41 h => ?_)
            refine lv_aload_n hx hb dX4_pass_181 rfl (lv_at hl 0 rfl) ?_
            refine mm_gfa C S (ci := 3) (k := 14) rfl in_X4 (by decide) q1684 (fun _ h9 => h9) dX4_pass_182 h (fun u42 h => ?_)
            refine lv_iload_n hx hb dX4_pass_185 rfl (lv_at hl 3 rfl) ?_
            refine mm_iald C S h dX4_pass_186 (fun v43 h => ?_)
            refine lv_dup2_11 hx hb dX4_pass_187 rfl rfl ?_
            refine mm_iald C S h dX4_pass_188 (fun v44 h => ?_)
            refine lv_iconst (v := 1) hx hb dX4_pass_189 (by decide) ?_
            refine lv_isub hx hb dX4_pass_190 ?_
            refine mm_iast C S h dX4_pass_191 (fun M45 H locs h S => ?_)
            refine lv_aload_n hx hb dX4_pass_192 rfl (lv_at hl 0 rfl) ?_
            refine mm_gfa C S (ci := 3) (k := 15) rfl in_X4 (by decide) q1685 (fun _ h9 => h9) dX4_pass_193 h (fun u46 h => ?_)
            refine lv_iload_n hx hb dX4_pass_196 rfl (lv_at hl 3 rfl) ?_
            refine mm_iald C S h dX4_pass_197 (fun v47 h => ?_)
            refine lv_iconst (v := (-1)) hx hb dX4_pass_198 (by decide) ?_
            refine lv_icmp_eq (tgt := 217) hx hb dX4_pass_199 (by decide) (fun c9 => ?_) (fun c9 => ?_)
            · have h := h.1 c9
              exact j217 _ _ _ _ _ _ _ _ _ _ hk S hl h
            · have h := h.2 c9
              refine lv_aload_n hx hb dX4_pass_202 rfl (lv_at hl 0 rfl) ?_
              refine mm_gfa C S (ci := 3) (k := 8) rfl in_X4 (by decide) q1678 (fun _ h9 => h9) dX4_pass_203 h (fun u48 h => ?_)
              refine lv_aload_n hx hb dX4_pass_206 rfl (lv_at hl 0 rfl) ?_
              refine mm_gfa C S (ci := 3) (k := 15) rfl in_X4 (by decide) q1685 (fun _ h9 => h9) dX4_pass_207 h (fun u49 h => ?_)
              refine lv_iload_n hx hb dX4_pass_210 rfl (lv_at hl 3 rfl) ?_
              refine mm_iald C S h dX4_pass_211 (fun v50 h => ?_)
              refine lv_dup2_11 hx hb dX4_pass_212 rfl rfl ?_
              refine mm_iald C S h dX4_pass_213 (fun v51 h => ?_)
              refine lv_iconst (v := 1) hx hb dX4_pass_214 (by decide) ?_
              refine lv_iadd hx hb dX4_pass_215 ?_
              refine mm_iast C S h dX4_pass_216 (fun M52 H locs h S => ?_)
              exact j217 _ _ _ _ _ _ _ _ _ _ hk S hl h
          intro k r M H locs ls a0 x1 x2 x3 hk S hl h
          rw [wl_X4_pass_105] at h
          refine lv_iload_n hx hb dX4_pass_105 rfl (lv_at hl 3 rfl) ?_
          refine lv_aload_n hx hb dX4_pass_106 rfl (lv_at hl 0 rfl) ?_
          refine mm_gfi C S (ci := 3) (k := 13) rfl in_X4 (by decide) q1683 (fun _ h9 => h9) dX4_pass_107 h (fun v19 h => ?_)
          refine lv_icmp_ge (tgt := 223) hx hb dX4_pass_110 (by decide) (fun c9 => ?_) (fun c9 => ?_)
          · have h := h.1 c9
            refine lv_iconst (v := 0) hx hb dX4_pass_223 (by decide) ?_
            refine lv_istore_n (lv' := [(3, .int 0), (0, .ref a0), (1, .int x1), (2, .int x2)]) hx hb dX4_pass_224 rfl hl (by decide) rfl (fun ls hl => ?_)
            obtain ⟨nf, h⟩ := h
            exact j225 nf _ _ _ _ _ _ _ _ _ _ hk S (lv_sub hl [1, 2, 3, 0] rfl) h
          · have h := h.2 c9
            refine lv_aload_n hx hb dX4_pass_113 rfl (lv_at hl 0 rfl) ?_
            refine mm_gfa C S (ci := 3) (k := 17) rfl in_X4 (by decide) q1687 (fun _ h9 => h9) dX4_pass_114 h (fun u20 h => ?_)
            refine lv_iload_n hx hb dX4_pass_117 rfl (lv_at hl 3 rfl) ?_
            refine mm_zald C S h dX4_pass_118 (fun v21 h => ?_)
            refine lv_if_eq (tgt := 217) hx hb dX4_pass_119 (by decide) (fun c9 => ?_) (fun c9 => ?_)
            · have h := h.1 c9
              exact j217 _ _ _ _ _ _ _ _ _ _ hk S hl h
            · have h := h.2 c9
              refine lv_aload_n hx hb dX4_pass_122 rfl (lv_at hl 0 rfl) ?_
              refine mm_gfa C S (ci := 3) (k := 8) rfl in_X4 (by decide) q1678 (fun _ h9 => h9) dX4_pass_123 h (fun u22 h => ?_)
              refine lv_aload_n hx hb dX4_pass_126 rfl (lv_at hl 0 rfl) ?_
              refine mm_gfa C S (ci := 3) (k := 14) rfl in_X4 (by decide) q1684 (fun _ h9 => h9) dX4_pass_127 h (fun u23 h => ?_)
              refine lv_iload_n hx hb dX4_pass_130 rfl (lv_at hl 3 rfl) ?_
              refine mm_iald C S h dX4_pass_131 (fun v24 h => ?_)
              refine mm_iald C S h dX4_pass_132 (fun v25 h => ?_)
              refine lv_aload_n hx hb dX4_pass_133 rfl (lv_at hl 0 rfl) ?_
              refine mm_gfa C S (ci := 3) (k := 16) rfl in_X4 (by decide) q1686 (fun _ h9 => h9) dX4_pass_134 h (fun u26 h => ?_)
              refine lv_iload_n hx hb dX4_pass_137 rfl (lv_at hl 3 rfl) ?_
              refine mm_iald C S h dX4_pass_138 (fun v27 h => ?_)
              refine lv_icmp_le (tgt := 217) hx hb dX4_pass_139 (by decide) (fun c9 => ?_) (fun c9 => ?_)
              · have h := h.1 c9
                exact j217 _ _ _ _ _ _ _ _ _ _ hk S hl h
              · have h := h.2 c9
                refine lv_aload_n hx hb dX4_pass_142 rfl (lv_at hl 0 rfl) ?_
                refine mm_gfa C S (ci := 3) (k := 15) rfl in_X4 (by decide) q1685 (fun _ h9 => h9) dX4_pass_143 h (fun u28 h => ?_)
                refine lv_iload_n hx hb dX4_pass_146 rfl (lv_at hl 3 rfl) ?_
                refine mm_iald C S h dX4_pass_147 (fun v29 h => ?_)
                refine lv_iconst (v := (-1)) hx hb dX4_pass_148 (by decide) ?_
                refine lv_icmp_eq (tgt := 177) hx hb dX4_pass_149 (by decide) (fun c9 => ?_) (fun c9 => ?_)
                · have h := h.1 c9
                  exact j177 _ _ _ _ _ _ _ _ _ _ hk S hl h
                · have h := h.2 c9
                  refine lv_aload_n hx hb dX4_pass_152 rfl (lv_at hl 0 rfl) ?_
                  refine mm_gfa C S (ci := 3) (k := 8) rfl in_X4 (by decide) q1678 (fun _ h9 => h9) dX4_pass_153 h (fun u30 h => ?_)
                  refine lv_aload_n hx hb dX4_pass_156 rfl (lv_at hl 0 rfl) ?_
                  refine mm_gfa C S (ci := 3) (k := 14) rfl in_X4 (by decide) q1684 (fun _ h9 => h9) dX4_pass_157 h (fun u31 h => ?_)
                  refine lv_iload_n hx hb dX4_pass_160 rfl (lv_at hl 3 rfl) ?_
                  refine mm_iald C S h dX4_pass_161 (fun v32 h => ?_)
                  refine mm_iald C S h dX4_pass_162 (fun v33 h => ?_)
                  refine lv_aload_n hx hb dX4_pass_163 rfl (lv_at hl 0 rfl) ?_
                  refine mm_gfa C S (ci := 3) (k := 8) rfl in_X4 (by decide) q1678 (fun _ h9 => h9) dX4_pass_164 h (fun u34 h => ?_)
                  refine lv_aload_n hx hb dX4_pass_167 rfl (lv_at hl 0 rfl) ?_
                  refine mm_gfa C S (ci := 3) (k := 15) rfl in_X4 (by decide) q1685 (fun _ h9 => h9) dX4_pass_168 h (fun u35 h => ?_)
                  refine lv_iload_n hx hb dX4_pass_171 rfl (lv_at hl 3 rfl) ?_
                  refine mm_iald C S h dX4_pass_172 (fun v36 h => ?_)
                  refine mm_iald C S h dX4_pass_173 (fun v37 h => ?_)
                  refine lv_icmp_le (tgt := 217) hx hb dX4_pass_174 (by decide) (fun c9 => ?_) (fun c9 => ?_)
                  · have h := h.1 c9
                    exact j217 _ _ _ _ _ _ _ _ _ _ hk S hl h
                  · have h := h.2 c9
                    exact j177 _ _ _ _ _ _ _ _ _ _ hk S hl h
      have j64 : ∀ (nf : Nat) (k r : Nat) (M : mM) (H : Heap) (locs : List Loc) (ls : Array Slot) (a0 : Nat) (x1 : Int32) (x2 : Int32) (x3 : Int32), k + r ≤ b → mW G A s M H locs → lv_has ls 4 [(0, .ref a0), (1, .int x1), (2, .int x2), (3, .int x3)] → wl_X4_pass_64 G P (wl_X4_pass_57 G P n57) nf r M a0 x1 x2 x3 → W p l e (mRm 12 b) s m args below meth c H locs k k (vx_MQ below (mQ G A (mRi P)) (mXC G A (fun _ _ _ => False)) args s b b A) (F0 m 64 ls []) := by
        intro nf
        induction nf with
        | zero =>
          intro k r M H locs ls a0 x1 x2 x3 hk S hl h
          rw [wl_X4_pass_64] at h
          exact h.elim
        | succ n64 ih64 =>
          intro k r M H locs ls a0 x1 x2 x3 hk S hl h
          rw [wl_X4_pass_64] at h
          refine lv_iload_n hx hb dX4_pass_64 rfl (lv_at hl 3 rfl) ?_
          refine lv_iconst (v := 4) hx hb dX4_pass_65 (by decide) ?_
          refine lv_icmp_ge (tgt := 103) hx hb dX4_pass_66 (by decide) (fun c9 => ?_) (fun c9 => ?_)
          · have h := h.1 c9
            refine lv_iconst (v := 0) hx hb dX4_pass_103 (by decide) ?_
            refine lv_istore_n (lv' := [(3, .int 0), (0, .ref a0), (1, .int x1), (2, .int x2)]) hx hb dX4_pass_104 rfl hl (by decide) rfl (fun ls hl => ?_)
            obtain ⟨nf, h⟩ := h
            exact j105 nf _ _ _ _ _ _ _ _ _ _ hk S (lv_sub hl [1, 2, 3, 0] rfl) h
          · have h := h.2 c9
            refine lv_aload_n hx hb dX4_pass_69 rfl (lv_at hl 0 rfl) ?_
            refine mm_gfa C S (ci := 3) (k := 8) rfl in_X4 (by decide) q1678 (fun _ h9 => h9) dX4_pass_70 h (fun u11 h => ?_)
            refine lv_iload_n hx hb dX4_pass_73 rfl (lv_at hl 3 rfl) ?_
            refine lv_iconst (v := 0) hx hb dX4_pass_74 (by decide) ?_
            refine lv_bipush (v := 9) hx hb dX4_pass_75 (by decide) ?_
            refine lv_aload_n hx hb dX4_pass_77 rfl (lv_at hl 0 rfl) ?_
            refine mm_gfa C S (ci := 3) (k := 8) rfl in_X4 (by decide) q1678 (fun _ h9 => h9) dX4_pass_78 h (fun u12 h => ?_)
            refine lv_iload_n hx hb dX4_pass_81 rfl (lv_at hl 3 rfl) ?_
            refine mm_iald C S h dX4_pass_82 (fun v13 h => ?_)
            refine lv_aload_n hx hb dX4_pass_83 rfl (lv_at hl 0 rfl) ?_
            refine mm_gfa C S (ci := 3) (k := 9) rfl in_X4 (by decide) q1679 (fun _ h9 => h9) dX4_pass_84 h (fun u14 h => ?_)
            refine lv_iload_n hx hb dX4_pass_87 rfl (lv_at hl 3 rfl) ?_
            refine mm_iald C S h dX4_pass_88 (fun v15 h => ?_)
            refine lv_iadd hx hb dX4_pass_89 ?_
            refine mm_min C hl.1 q1879 q331 q68 q332 (Nat.le_of_ble_eq_true rfl) (Nat.le_of_ble_eq_true rfl) (Nat.le_trans (Nat.le_add_right _ _) hk) (Nat.le_trans (Nat.le_add_right _ _) hk) dX4_pass_90 ?_
            refine lv_topi (fun g16 eg16 => ?_)
            have h := h g16 eg16
            refine mm_max C hl.1 q1880 q328 q68 q329 (Nat.le_of_ble_eq_true rfl) (Nat.le_of_ble_eq_true rfl) (Nat.le_trans (Nat.le_add_right _ _) hk) (Nat.le_trans (Nat.le_add_right _ _) hk) dX4_pass_93 ?_
            refine lv_topi (fun g17 eg17 => ?_)
            have h := h g17 eg17
            refine mm_iast C S h dX4_pass_96 (fun M18 H locs h S => ?_)
            refine lv_iinc (v := (x3 + 1)) (lv' := [(3, .int (x3 + 1)), (0, .ref a0), (1, .int x1), (2, .int x2)]) hx hb dX4_pass_97 hl (k := 3) rfl rfl (by decide) rfl (fun ls hl => ?_)
            refine lv_goto (tgt := 64) hx hb dX4_pass_100 (by decide) ?_
            exact ih64 _ _ _ _ _ _ _ _ _ _ hk S (lv_sub hl [1, 2, 3, 0] rfl) h
      intro k r M H locs ls a0 x1 x2 hk S hl h
      rw [wl_X4_pass_57] at h
      refine lv_iload_n hx hb dX4_pass_57 rfl (lv_at hl 2 rfl) ?_
      refine lv_iload_n hx hb dX4_pass_58 rfl (lv_at hl 1 rfl) ?_
      refine lv_icmp_ge (tgt := 258) hx hb dX4_pass_59 (by decide) (fun c9 => ?_) (fun c9 => ?_)
      · have h := h.1 c9
        refine lv_aload_n hx hb dX4_pass_258 rfl (lv_at hl 0 rfl) ?_
        refine lv_dup hx hb dX4_pass_259 rfl ?_
        refine mm_gfi C S (ci := 3) (k := 1) rfl in_X4 (by decide) q1671 (fun _ h9 => h9) dX4_pass_260 h (fun v8 h => ?_)
        refine lv_iload_n hx hb dX4_pass_263 rfl (lv_at hl 1 rfl) ?_
        refine lv_iadd hx hb dX4_pass_264 ?_
        refine mm_pfi C S (ci := 3) (k := 1) rfl in_X4 tyX4_ok nmX4 (by decide) q1671 (fun _ h9 => h9) rfl dX4_pass_265 rfl h (fun M9 H locs h S => ?_)
        refine lv_aload_n hx hb dX4_pass_268 rfl (lv_at hl 0 rfl) ?_
        refine mm_gfi C S (ci := 3) (k := 1) rfl in_X4 (by decide) q1671 (fun _ h9 => h9) dX4_pass_269 h (fun v10 h => ?_)
        exact mm_iret C S hr (Nat.le_trans (Nat.le_add_right _ _) hk) dX4_pass_272 h
      · have h := h.2 c9
        refine lv_iconst (v := 0) hx hb dX4_pass_62 (by decide) ?_
        refine lv_istore_n (lv' := [(3, .int 0), (0, .ref a0), (1, .int x1), (2, .int x2)]) hx hb dX4_pass_63 rfl hl (by decide) rfl (fun ls hl => ?_)
        obtain ⟨nf, h⟩ := h
        exact j64 nf _ _ _ _ _ _ _ _ _ _ hk S (lv_sub hl [1, 2, 3, 0] rfl) h
  have j46 : ∀ (k r : Nat) (M : mM) (H : Heap) (locs : List Loc) (ls : Array Slot) (a0 : Nat) (x1 : Int32) (s0 : Nat) (s1 : Int32) (s2 : Int32), k + r ≤ b → mW G A s M H locs → lv_has ls 4 [(0, .ref a0), (1, .int x1)] → wb_X4_pass_46 G P r M a0 x1 s0 s1 s2 → W p l e (mRm 12 b) s m args below meth c H locs k k (vx_MQ below (mQ G A (mRi P)) (mXC G A (fun _ _ _ => False)) args s b b A) (F0 m 46 ls [.int s2, .int s1, .ref s0]) := by
    intro k r M H locs ls a0 x1 s0 s1 s2 hk S hl h
    unfold wb_X4_pass_46 at h
    refine lv_iconst (v := 0) hx hb dX4_pass_46 (by decide) ?_
    obtain ⟨hI, h⟩ := h
    refine mm_V (As := [.int s1, .int s2, .int 0]) (rest := []) C S hl.1 (wk_X4_fails hst0 h) (T := TX4) rfl hI (lw_V q1836 q1838 qs22 q58 q1839) rfl pd_X4_fails ⟨Nat.le_of_ble_eq_true rfl, Nat.le_of_ble_eq_true rfl⟩ rfl rfl (Nat.le_of_ble_eq_true rfl) dX4_pass_47 rfl rfl hk (Nat.zero_add _) (fun v9 M6 H locs hP S hk => ?_) (fun E q ce M9 H9 locs9 hX => hX.elim)
    obtain ⟨v7, rfl, h⟩ := hP
    refine W.eq (g2 := F0 m 50 ls [.int v7]) rfl ?_
    refine lv_if_eq (tgt := 55) hx hb dX4_pass_50 (by decide) (fun c9 => ?_) (fun c9 => ?_)
    · have h := h.1 c9
      refine lv_iconst (v := 0) hx hb dX4_pass_55 (by decide) ?_
      refine lv_istore_n (lv' := [(2, .int 0), (0, .ref a0), (1, .int x1)]) hx hb dX4_pass_56 rfl hl (by decide) rfl (fun ls hl => ?_)
      obtain ⟨nf, h⟩ := h
      exact j57 nf _ _ _ _ _ _ _ _ _ hk S (lv_sub hl [1, 2, 0] rfl) h
    · have h := h.2 c9
      refine lv_iconst (v := 0) hx hb dX4_pass_53 (by decide) ?_
      exact mm_iret C S hr (Nat.le_trans (Nat.le_add_right _ _) hk) dX4_pass_54 h
  have j17 : ∀ (k r : Nat) (M : mM) (H : Heap) (locs : List Loc) (ls : Array Slot) (a0 : Nat) (x1 : Int32) (s0 : Nat) (s1 : Int32), k + r ≤ b → mW G A s M H locs → lv_has ls 4 [(0, .ref a0), (1, .int x1)] → wb_X4_pass_17 G P r M a0 x1 s0 s1 → W p l e (mRm 12 b) s m args below meth c H locs k k (vx_MQ below (mQ G A (mRi P)) (mXC G A (fun _ _ _ => False)) args s b b A) (F0 m 17 ls [.int s1, .ref s0]) := by
    intro k r M H locs ls a0 x1 s0 s1 hk S hl h
    unfold wb_X4_pass_17 at h
    refine lv_iconst (v := 0) hx hb dX4_pass_17 (by decide) ?_
    refine lv_iconst (v := 0) hx hb dX4_pass_18 (by decide) ?_
    obtain ⟨hI, h⟩ := h
    refine mm_V (As := [.int s1, .int 0, .int 0]) (rest := []) C S hl.1 (wk_X4_fails hst0 h) (T := TX4) rfl hI (lw_V q1836 q1838 qs22 q58 q1839) rfl pd_X4_fails ⟨Nat.le_of_ble_eq_true rfl, Nat.le_of_ble_eq_true rfl⟩ rfl rfl (Nat.le_of_ble_eq_true rfl) dX4_pass_19 rfl rfl hk (Nat.zero_add _) (fun v9 M3 H locs hP S hk => ?_) (fun E q ce M9 H9 locs9 hX => hX.elim)
    obtain ⟨v4, rfl, h⟩ := hP
    refine W.eq (g2 := F0 m 22 ls [.int v4]) rfl ?_
    refine lv_if_eq (tgt := 27) hx hb dX4_pass_22 (by decide) (fun c9 => ?_) (fun c9 => ?_)
    · have h := h.1 c9
      refine lv_aload_n hx hb dX4_pass_27 rfl (lv_at hl 0 rfl) ?_
      refine lv_iconst (v := 0) hx hb dX4_pass_28 (by decide) ?_
      refine lv_aload_n hx hb dX4_pass_29 rfl (lv_at hl 0 rfl) ?_
      refine mm_gfi C S (ci := 3) (k := 1) rfl in_X4 (by decide) q1671 (fun _ h9 => h9) dX4_pass_30 h (fun v5 h => ?_)
      refine lv_iload_n hx hb dX4_pass_33 rfl (lv_at hl 1 rfl) ?_
      refine lv_iadd hx hb dX4_pass_34 ?_
      refine lv_sipush (v := 20000) hx hb dX4_pass_35 (by decide) ?_
      refine lv_icmp_le (tgt := 45) hx hb dX4_pass_38 (by decide) (fun c9 => ?_) (fun c9 => ?_)
      · have h := h.1 c9
        refine lv_iconst (v := 0) hx hb dX4_pass_45 (by decide) ?_
        exact j46 _ _ _ _ _ _ _ _ _ _ _ hk S hl h
      · have h := h.2 c9
        refine lv_iconst (v := 1) hx hb dX4_pass_41 (by decide) ?_
        refine lv_goto (tgt := 46) hx hb dX4_pass_42 (by decide) ?_
        exact j46 _ _ _ _ _ _ _ _ _ _ _ hk S hl h
    · have h := h.2 c9
      refine lv_iconst (v := 0) hx hb dX4_pass_25 (by decide) ?_
      exact mm_iret C S hr (Nat.le_trans (Nat.le_add_right _ _) hk) dX4_pass_26 h
  unfold wp_X4_pass at h
  refine lv_aload_n hx hb dX4_pass_0 rfl (lv_at hl 0 rfl) ?_
  refine lv_iload_n hx hb dX4_pass_1 rfl (lv_at hl 1 rfl) ?_
  refine lv_iconst (v := 1) hx hb dX4_pass_2 (by decide) ?_
  refine lv_sipush (v := 400) hx hb dX4_pass_3 (by decide) ?_
  refine mm_S (As := [.int x1, .int 1, .int 400]) (rest := [.ref a0]) C S hl.1 (wk_X4_isIn hst0 h) (lw_S q1830 q1831 q58 q1832) pd_X4_isIn ⟨Nat.le_of_ble_eq_true rfl, Nat.le_of_ble_eq_true rfl⟩ rfl rfl (Nat.le_of_ble_eq_true rfl) dX4_pass_6 rfl rfl hk (Nat.zero_add _) (fun v9 M1 H locs hP S hk => ?_) (fun E q ce M9 H9 locs9 hX => hX.elim)
  obtain ⟨v2, rfl, h⟩ := hP
  refine W.eq (g2 := F0 m 9 ls [.int v2, .ref a0]) rfl ?_
  refine lv_if_ne (tgt := 16) hx hb dX4_pass_9 (by decide) (fun c9 => ?_) (fun c9 => ?_)
  · have h := h.1 c9
    refine lv_iconst (v := 0) hx hb dX4_pass_16 (by decide) ?_
    exact j17 _ _ _ _ _ _ _ _ _ _ hk S hl h
  · have h := h.2 c9
    refine lv_iconst (v := 1) hx hb dX4_pass_12 (by decide) ?_
    refine lv_goto (tgt := 17) hx hb dX4_pass_13 (by decide) ?_
    exact j17 _ _ _ _ _ _ _ _ _ _ hk S hl h
/-! X4_route: level 21 -/
def wb_X4_route_68 (G : mG) (P : Int32 → mM → Prop) (r : Nat) (M : mM) (s0 : Int32) : Prop :=
  P s0 M
def wb_X4_route_19 (G : mG) (P : Int32 → mM → Prop) (r : Nat) (M : mM) (a0 : Nat) (x1 : Int32) (s0 : Nat) (s1 : Int32) (s2 : Int32) : Prop :=
  isc M s0 3 ∧ (wp_X4_fails G 0 (fun v5 M4 => (v5 = 0 → pfi M4 a0 3 20 0 fun M6 => pfi M6 a0 3 21 (-1) fun M7 => isc M7 a0 3 ∧ (wp_X4_isRoute G 0 (fun v9 M8 => pfi M8 a0 3 18 0 fun M10 => (v9 = 0 → wb_X4_route_68 G P r M10 (-1)) ∧ (¬ v9 = 0 → gfi M10 a0 3 24 fun v11 => pfi M10 a0 3 24 (v11 + 1) fun M12 => wb_X4_route_68 G P r M12 v11)) M7 a0 x1)) ∧ (¬ v5 = 0 → P 0 M4)) M s0 s1 s2 0)
def wp_X4_route (G : mG) (b : Nat) (P : Int32 → mM → Prop) (M : mM) (a0 : Nat) (x1 : Int32) : Prop :=
  wp_X4_noCell G 0 (fun v2 M1 => gfi M1 a0 3 24 fun v3 => (¬ v3 = 8 → wb_X4_route_19 G P b M1 a0 x1 a0 v2 0) ∧ (v3 = 8 → wb_X4_route_19 G P b M1 a0 x1 a0 v2 1)) M x1
set_option maxHeartbeats 4000000 in
set_option maxRecDepth 100000 in
theorem wk_X4_route {l : Launch} (hst0 : l.stackTraces = false) {G : mG} {b : Nat} {P : Int32 → mM → Prop} {M : mM} {a0 : Nat} {x1 : Int32} (h : wp_X4_route G b P M a0 x1) : mMet l yX4_route (ws_ yX4_route cX4_route 3 (Option.some Jvm.ClassFile.FieldType.int)) 21 b G [.ref a0, .int x1] M (mRi P) (fun _ _ _ => False) := by
  refine mm_met hst0 (by decide) (Nat.le_of_ble_eq_true rfl) ?_
  intro p e s m args below meth c ls C hr hnt hnm hl S
  have hl : lv_has ls 3 [(0, .ref a0), (1, .int x1)] := hl
  generalize mA M s.heap.size = A at C S ⊢
  have hx := C.hx
  have hb := C.hb
  have hk : 0 + b ≤ b := Nat.le_of_eq (Nat.zero_add b)
  have j68 : ∀ (k r : Nat) (M : mM) (H : Heap) (locs : List Loc) (ls : Array Slot) (s0 : Int32), k + r ≤ b → mW G A s M H locs → lv_has ls 3 [] → wb_X4_route_68 G P r M s0 → W p l e (mRm 21 b) s m args below meth c H locs k k (vx_MQ below (mQ G A (mRi P)) (mXC G A (fun _ _ _ => False)) args s b b A) (F0 m 68 ls [.int s0]) := by
    intro k r M H locs ls s0 hk S hl h
    unfold wb_X4_route_68 at h
    exact mm_iret C S hr (Nat.le_trans (Nat.le_add_right _ _) hk) dX4_route_68 h
  have j19 : ∀ (k r : Nat) (M : mM) (H : Heap) (locs : List Loc) (ls : Array Slot) (a0 : Nat) (x1 : Int32) (s0 : Nat) (s1 : Int32) (s2 : Int32), k + r ≤ b → mW G A s M H locs → lv_has ls 3 [(0, .ref a0), (1, .int x1)] → wb_X4_route_19 G P r M a0 x1 s0 s1 s2 → W p l e (mRm 21 b) s m args below meth c H locs k k (vx_MQ below (mQ G A (mRi P)) (mXC G A (fun _ _ _ => False)) args s b b A) (F0 m 19 ls [.int s2, .int s1, .ref s0]) := by
    intro k r M H locs ls a0 x1 s0 s1 s2 hk S hl h
    unfold wb_X4_route_19 at h
    refine lv_iconst (v := 0) hx hb dX4_route_19 (by decide) ?_
    obtain ⟨hI, h⟩ := h
    refine mm_V (As := [.int s1, .int s2, .int 0]) (rest := []) C S hl.1 (wk_X4_fails hst0 h) (T := TX4) rfl hI (lw_V q1836 q1838 qs22 q58 q1839) rfl pd_X4_fails ⟨Nat.le_of_ble_eq_true rfl, Nat.le_of_ble_eq_true rfl⟩ rfl rfl (Nat.le_of_ble_eq_true rfl) dX4_route_20 rfl rfl hk (Nat.zero_add _) (fun v9 M4 H locs hP S hk => ?_) (fun E q ce M9 H9 locs9 hX => hX.elim)
    obtain ⟨v5, rfl, h⟩ := hP
    refine W.eq (g2 := F0 m 23 ls [.int v5]) rfl ?_
    refine lv_if_eq (tgt := 28) hx hb dX4_route_23 (by decide) (fun c9 => ?_) (fun c9 => ?_)
    · have h := h.1 c9
      refine lv_aload_n hx hb dX4_route_28 rfl (lv_at hl 0 rfl) ?_
      refine lv_iconst (v := 0) hx hb dX4_route_29 (by decide) ?_
      refine mm_pfi C S (ci := 3) (k := 20) rfl in_X4 tyX4_ok nmX4 (by decide) q1690 (fun _ h9 => h9) rfl dX4_route_30 rfl h (fun M6 H locs h S => ?_)
      refine lv_aload_n hx hb dX4_route_33 rfl (lv_at hl 0 rfl) ?_
      refine lv_iconst (v := (-1)) hx hb dX4_route_34 (by decide) ?_
      refine mm_pfi C S (ci := 3) (k := 21) rfl in_X4 tyX4_ok nmX4 (by decide) q1691 (fun _ h9 => h9) rfl dX4_route_35 rfl h (fun M7 H locs h S => ?_)
      refine lv_aload_n hx hb dX4_route_38 rfl (lv_at hl 0 rfl) ?_
      refine lv_iload_n hx hb dX4_route_39 rfl (lv_at hl 1 rfl) ?_
      obtain ⟨hI, h⟩ := h
      refine mm_V (As := [.int x1]) (rest := []) C S hl.1 (wk_X4_isRoute hst0 h) (T := TX4) rfl hI (lw_V q1894 q1896 qs26 q58 q1897) rfl pd_X4_isRoute ⟨Nat.le_of_ble_eq_true rfl, Nat.le_of_ble_eq_true rfl⟩ rfl rfl (Nat.le_of_ble_eq_true rfl) dX4_route_40 rfl rfl hk (Nat.zero_add _) (fun v9 M8 H locs hP S hk => ?_) (fun E q ce M9 H9 locs9 hX => hX.elim)
      obtain ⟨v9, rfl, h⟩ := hP
      refine W.eq (g2 := F0 m 43 ls [.int v9]) rfl ?_
      refine lv_istore_n (lv' := [(2, .int v9), (0, .ref a0), (1, .int x1)]) hx hb dX4_route_43 rfl hl (by decide) rfl (fun ls hl => ?_)
      refine lv_aload_n hx hb dX4_route_44 rfl (lv_at hl 1 rfl) ?_
      refine lv_iconst (v := 0) hx hb dX4_route_45 (by decide) ?_
      refine mm_pfi C S (ci := 3) (k := 18) rfl in_X4 tyX4_ok nmX4 (by decide) q1688 (fun _ h9 => h9) rfl dX4_route_46 rfl h (fun M10 H locs h S => ?_)
      refine lv_iload_n hx hb dX4_route_49 rfl (lv_at hl 0 rfl) ?_
      refine lv_if_eq (tgt := 67) hx hb dX4_route_50 (by decide) (fun c9 => ?_) (fun c9 => ?_)
      · have h := h.1 c9
        refine lv_iconst (v := (-1)) hx hb dX4_route_67 (by decide) ?_
        exact j68 _ _ _ _ _ _ _ hk S (lv_sub hl [] rfl) h
      · have h := h.2 c9
        refine lv_aload_n hx hb dX4_route_53 rfl (lv_at hl 1 rfl) ?_
        refine lv_dup hx hb dX4_route_54 rfl ?_
        refine mm_gfi C S (ci := 3) (k := 24) rfl in_X4 (by decide) q1694 (fun _ h9 => h9) dX4_route_55 h (fun v11 h => ?_)
        refine lv_dup_x1 hx hb dX4_route_58 rfl rfl ?_
        refine lv_iconst (v := 1) hx hb dX4_route_59 (by decide) ?_
        refine lv_iadd hx hb dX4_route_60 ?_
        refine mm_pfi C S (ci := 3) (k := 24) rfl in_X4 tyX4_ok nmX4 (by decide) q1694 (fun _ h9 => h9) rfl dX4_route_61 rfl h (fun M12 H locs h S => ?_)
        refine lv_goto (tgt := 68) hx hb dX4_route_64 (by decide) ?_
        exact j68 _ _ _ _ _ _ _ hk S (lv_sub hl [] rfl) h
    · have h := h.2 c9
      refine lv_iconst (v := 0) hx hb dX4_route_26 (by decide) ?_
      exact mm_iret C S hr (Nat.le_trans (Nat.le_add_right _ _) hk) dX4_route_27 h
  unfold wp_X4_route at h
  refine lv_aload_n hx hb dX4_route_0 rfl (lv_at hl 0 rfl) ?_
  refine lv_iload_n hx hb dX4_route_1 rfl (lv_at hl 1 rfl) ?_
  refine mm_S (As := [.int x1]) (rest := [.ref a0]) C S hl.1 (wk_X4_noCell hst0 h) (lw_S q1827 q1828 q58 q1829) pd_X4_noCell ⟨Nat.le_of_ble_eq_true rfl, Nat.le_of_ble_eq_true rfl⟩ rfl rfl (Nat.le_of_ble_eq_true rfl) dX4_route_2 rfl rfl hk (Nat.zero_add _) (fun v9 M1 H locs hP S hk => ?_) (fun E q ce M9 H9 locs9 hX => hX.elim)
  obtain ⟨v2, rfl, h⟩ := hP
  refine W.eq (g2 := F0 m 5 ls [.int v2, .ref a0]) rfl ?_
  refine lv_aload_n hx hb dX4_route_5 rfl (lv_at hl 0 rfl) ?_
  refine mm_gfi C S (ci := 3) (k := 24) rfl in_X4 (by decide) q1694 (fun _ h9 => h9) dX4_route_6 h (fun v3 h => ?_)
  refine lv_bipush (v := 8) hx hb dX4_route_9 (by decide) ?_
  refine lv_icmp_ne (tgt := 18) hx hb dX4_route_11 (by decide) (fun c9 => ?_) (fun c9 => ?_)
  · have h := h.1 c9
    refine lv_iconst (v := 0) hx hb dX4_route_18 (by decide) ?_
    exact j19 _ _ _ _ _ _ _ _ _ _ _ hk S hl h
  · have h := h.2 c9
    refine lv_iconst (v := 1) hx hb dX4_route_14 (by decide) ?_
    refine lv_goto (tgt := 19) hx hb dX4_route_15 (by decide) ?_
    exact j19 _ _ _ _ _ _ _ _ _ _ _ hk S hl h
/-! X4_routeAt: level 12 -/
def wb_X4_routeAt_50 (G : mG) (P : Int32 → mM → Prop) (r : Nat) (M : mM) (s0 : Int32) : Prop :=
  P s0 M
def wb_X4_routeAt_30 (G : mG) (P : Int32 → mM → Prop) (r : Nat) (M : mM) (a0 : Nat) (x1 : Int32) (x2 : Int32) (s0 : Nat) (s1 : Int32) : Prop :=
  isc M s0 3 ∧ (wp_X4_fails G 0 (fun v8 M7 => (v8 = 0 → gfa M7 a0 3 26 fun u9 => lda M7 8 u9 x1 fun u10 => ldi M7 0 u10 x2 fun v11 => wb_X4_routeAt_50 G P r M7 v11) ∧ (¬ v8 = 0 → wb_X4_routeAt_50 G P r M7 0)) M s0 s1 0 0)
def wb_X4_routeAt_25 (G : mG) (P : Int32 → mM → Prop) (r : Nat) (M : mM) (a0 : Nat) (x1 : Int32) (x2 : Int32) (s0 : Nat) : Prop :=
  wb_X4_routeAt_30 G P r M a0 x1 x2 s0 1
def wp_X4_routeAt (G : mG) (b : Nat) (P : Int32 → mM → Prop) (M : mM) (a0 : Nat) (x1 : Int32) (x2 : Int32) : Prop :=
  isc M a0 3 ∧ (wp_X4_noRoute G 0 (fun v2 M1 => (¬ v2 = 0 → wb_X4_routeAt_25 G P b M1 a0 x1 x2 a0) ∧ (v2 = 0 → gfa M1 a0 3 23 fun u3 => ldi M1 0 u3 x1 fun v4 => wp_X4_isIn G 0 (fun v6 M5 => (¬ v6 = 0 → wb_X4_routeAt_30 G P b M5 a0 x1 x2 a0 0) ∧ (v6 = 0 → wb_X4_routeAt_25 G P b M5 a0 x1 x2 a0)) M1 x2 0 (v4 - 1))) M a0 x1)
set_option maxHeartbeats 4000000 in
set_option maxRecDepth 100000 in
theorem wk_X4_routeAt {l : Launch} (hst0 : l.stackTraces = false) {G : mG} {b : Nat} {P : Int32 → mM → Prop} {M : mM} {a0 : Nat} {x1 : Int32} {x2 : Int32} (h : wp_X4_routeAt G b P M a0 x1 x2) : mMet l yX4_routeAt (ws_ yX4_routeAt cX4_routeAt 3 (Option.some Jvm.ClassFile.FieldType.int)) 12 b G [.ref a0, .int x1, .int x2] M (mRi P) (fun _ _ _ => False) := by
  refine mm_met hst0 (by decide) (Nat.le_of_ble_eq_true rfl) ?_
  intro p e s m args below meth c ls C hr hnt hnm hl S
  have hl : lv_has ls 3 [(0, .ref a0), (1, .int x1), (2, .int x2)] := hl
  generalize mA M s.heap.size = A at C S ⊢
  have hx := C.hx
  have hb := C.hb
  have hk : 0 + b ≤ b := Nat.le_of_eq (Nat.zero_add b)
  have j50 : ∀ (k r : Nat) (M : mM) (H : Heap) (locs : List Loc) (ls : Array Slot) (s0 : Int32), k + r ≤ b → mW G A s M H locs → lv_has ls 3 [] → wb_X4_routeAt_50 G P r M s0 → W p l e (mRm 12 b) s m args below meth c H locs k k (vx_MQ below (mQ G A (mRi P)) (mXC G A (fun _ _ _ => False)) args s b b A) (F0 m 50 ls [.int s0]) := by
    intro k r M H locs ls s0 hk S hl h
    unfold wb_X4_routeAt_50 at h
    exact mm_iret C S hr (Nat.le_trans (Nat.le_add_right _ _) hk) dX4_routeAt_50 h
  have j30 : ∀ (k r : Nat) (M : mM) (H : Heap) (locs : List Loc) (ls : Array Slot) (a0 : Nat) (x1 : Int32) (x2 : Int32) (s0 : Nat) (s1 : Int32), k + r ≤ b → mW G A s M H locs → lv_has ls 3 [(0, .ref a0), (1, .int x1), (2, .int x2)] → wb_X4_routeAt_30 G P r M a0 x1 x2 s0 s1 → W p l e (mRm 12 b) s m args below meth c H locs k k (vx_MQ below (mQ G A (mRi P)) (mXC G A (fun _ _ _ => False)) args s b b A) (F0 m 30 ls [.int s1, .ref s0]) := by
    intro k r M H locs ls a0 x1 x2 s0 s1 hk S hl h
    unfold wb_X4_routeAt_30 at h
    refine lv_iconst (v := 0) hx hb dX4_routeAt_30 (by decide) ?_
    refine lv_iconst (v := 0) hx hb dX4_routeAt_31 (by decide) ?_
    obtain ⟨hI, h⟩ := h
    refine mm_V (As := [.int s1, .int 0, .int 0]) (rest := []) C S hl.1 (wk_X4_fails hst0 h) (T := TX4) rfl hI (lw_V q1836 q1838 qs22 q58 q1839) rfl pd_X4_fails ⟨Nat.le_of_ble_eq_true rfl, Nat.le_of_ble_eq_true rfl⟩ rfl rfl (Nat.le_of_ble_eq_true rfl) dX4_routeAt_32 rfl rfl hk (Nat.zero_add _) (fun v9 M7 H locs hP S hk => ?_) (fun E q ce M9 H9 locs9 hX => hX.elim)
    obtain ⟨v8, rfl, h⟩ := hP
    refine W.eq (g2 := F0 m 35 ls [.int v8]) rfl ?_
    refine lv_if_eq (tgt := 42) hx hb dX4_routeAt_35 (by decide) (fun c9 => ?_) (fun c9 => ?_)
    · have h := h.1 c9
      refine lv_aload_n hx hb dX4_routeAt_42 rfl (lv_at hl 0 rfl) ?_
      refine mm_gfa C S (ci := 3) (k := 26) rfl in_X4 (by decide) q1696 (fun _ h9 => h9) dX4_routeAt_43 h (fun u9 h => ?_)
      refine lv_iload_n hx hb dX4_routeAt_46 rfl (lv_at hl 1 rfl) ?_
      refine mm_aald C S (t := 8) rfl rfl h dX4_routeAt_47 (fun u10 h => ?_)
      refine lv_iload_n hx hb dX4_routeAt_48 rfl (lv_at hl 2 rfl) ?_
      refine mm_iald C S h dX4_routeAt_49 (fun v11 h => ?_)
      exact j50 _ _ _ _ _ _ _ hk S (lv_sub hl [] rfl) h
    · have h := h.2 c9
      refine lv_iconst (v := 0) hx hb dX4_routeAt_38 (by decide) ?_
      refine lv_goto (tgt := 50) hx hb dX4_routeAt_39 (by decide) ?_
      exact j50 _ _ _ _ _ _ _ hk S (lv_sub hl [] rfl) h
  have j25 : ∀ (k r : Nat) (M : mM) (H : Heap) (locs : List Loc) (ls : Array Slot) (a0 : Nat) (x1 : Int32) (x2 : Int32) (s0 : Nat), k + r ≤ b → mW G A s M H locs → lv_has ls 3 [(0, .ref a0), (1, .int x1), (2, .int x2)] → wb_X4_routeAt_25 G P r M a0 x1 x2 s0 → W p l e (mRm 12 b) s m args below meth c H locs k k (vx_MQ below (mQ G A (mRi P)) (mXC G A (fun _ _ _ => False)) args s b b A) (F0 m 25 ls [.ref s0]) := by
    intro k r M H locs ls a0 x1 x2 s0 hk S hl h
    unfold wb_X4_routeAt_25 at h
    refine lv_iconst (v := 1) hx hb dX4_routeAt_25 (by decide) ?_
    refine lv_goto (tgt := 30) hx hb dX4_routeAt_26 (by decide) ?_
    exact j30 _ _ _ _ _ _ _ _ _ _ _ hk S hl h
  unfold wp_X4_routeAt at h
  refine lv_aload_n hx hb dX4_routeAt_0 rfl (lv_at hl 0 rfl) ?_
  refine lv_aload_n hx hb dX4_routeAt_1 rfl (lv_at hl 0 rfl) ?_
  refine lv_iload_n hx hb dX4_routeAt_2 rfl (lv_at hl 1 rfl) ?_
  obtain ⟨hI, h⟩ := h
  refine mm_V (As := [.int x1]) (rest := [.ref a0]) C S hl.1 (wk_X4_noRoute hst0 h) (T := TX4) rfl hI (lw_V q1945 q1947 qs35 q58 q1948) rfl pd_X4_noRoute ⟨Nat.le_of_ble_eq_true rfl, Nat.le_of_ble_eq_true rfl⟩ rfl rfl (Nat.le_of_ble_eq_true rfl) dX4_routeAt_3 rfl rfl hk (Nat.zero_add _) (fun v9 M1 H locs hP S hk => ?_) (fun E q ce M9 H9 locs9 hX => hX.elim)
  obtain ⟨v2, rfl, h⟩ := hP
  refine W.eq (g2 := F0 m 6 ls [.int v2, .ref a0]) rfl ?_
  refine lv_if_ne (tgt := 25) hx hb dX4_routeAt_6 (by decide) (fun c9 => ?_) (fun c9 => ?_)
  · have h := h.1 c9
    exact j25 _ _ _ _ _ _ _ _ _ _ hk S hl h
  · have h := h.2 c9
    refine lv_iload_n hx hb dX4_routeAt_9 rfl (lv_at hl 2 rfl) ?_
    refine lv_iconst (v := 0) hx hb dX4_routeAt_10 (by decide) ?_
    refine lv_aload_n hx hb dX4_routeAt_11 rfl (lv_at hl 0 rfl) ?_
    refine mm_gfa C S (ci := 3) (k := 23) rfl in_X4 (by decide) q1693 (fun _ h9 => h9) dX4_routeAt_12 h (fun u3 h => ?_)
    refine lv_iload_n hx hb dX4_routeAt_15 rfl (lv_at hl 1 rfl) ?_
    refine mm_iald C S h dX4_routeAt_16 (fun v4 h => ?_)
    refine lv_iconst (v := 1) hx hb dX4_routeAt_17 (by decide) ?_
    refine lv_isub hx hb dX4_routeAt_18 ?_
    refine mm_S (As := [.int x2, .int 0, .int (v4 - 1)]) (rest := [.ref a0]) C S hl.1 (wk_X4_isIn hst0 h) (lw_S q1830 q1831 q58 q1832) pd_X4_isIn ⟨Nat.le_of_ble_eq_true rfl, Nat.le_of_ble_eq_true rfl⟩ rfl rfl (Nat.le_of_ble_eq_true rfl) dX4_routeAt_19 rfl rfl hk (Nat.zero_add _) (fun v9 M5 H locs hP S hk => ?_) (fun E q ce M9 H9 locs9 hX => hX.elim)
    obtain ⟨v6, rfl, h⟩ := hP
    refine W.eq (g2 := F0 m 22 ls [.int v6, .ref a0]) rfl ?_
    refine lv_if_ne (tgt := 29) hx hb dX4_routeAt_22 (by decide) (fun c9 => ?_) (fun c9 => ?_)
    · have h := h.1 c9
      refine lv_iconst (v := 0) hx hb dX4_routeAt_29 (by decide) ?_
      exact j30 _ _ _ _ _ _ _ _ _ _ _ hk S hl h
    · have h := h.2 c9
      exact j25 _ _ _ _ _ _ _ _ _ _ hk S hl h
/-! X4_routeLength: level 12 -/
def wb_X4_routeLength_24 (G : mG) (P : Int32 → mM → Prop) (r : Nat) (M : mM) (s0 : Int32) : Prop :=
  P s0 M
def wp_X4_routeLength (G : mG) (b : Nat) (P : Int32 → mM → Prop) (M : mM) (a0 : Nat) (x1 : Int32) : Prop :=
  isc M a0 3 ∧ (wp_X4_noRoute G 0 (fun v2 M1 => isc M1 a0 3 ∧ (wp_X4_fails G 0 (fun v4 M3 => (v4 = 0 → gfa M3 a0 3 23 fun u5 => ldi M3 0 u5 x1 fun v6 => wb_X4_routeLength_24 G P b M3 v6) ∧ (¬ v4 = 0 → wb_X4_routeLength_24 G P b M3 0)) M1 a0 v2 0 0)) M a0 x1)
set_option maxHeartbeats 4000000 in
set_option maxRecDepth 100000 in
theorem wk_X4_routeLength {l : Launch} (hst0 : l.stackTraces = false) {G : mG} {b : Nat} {P : Int32 → mM → Prop} {M : mM} {a0 : Nat} {x1 : Int32} (h : wp_X4_routeLength G b P M a0 x1) : mMet l yX4_routeLength (ws_ yX4_routeLength cX4_routeLength 2 (Option.some Jvm.ClassFile.FieldType.int)) 12 b G [.ref a0, .int x1] M (mRi P) (fun _ _ _ => False) := by
  refine mm_met hst0 (by decide) (Nat.le_of_ble_eq_true rfl) ?_
  intro p e s m args below meth c ls C hr hnt hnm hl S
  have hl : lv_has ls 2 [(0, .ref a0), (1, .int x1)] := hl
  generalize mA M s.heap.size = A at C S ⊢
  have hx := C.hx
  have hb := C.hb
  have hk : 0 + b ≤ b := Nat.le_of_eq (Nat.zero_add b)
  have j24 : ∀ (k r : Nat) (M : mM) (H : Heap) (locs : List Loc) (ls : Array Slot) (s0 : Int32), k + r ≤ b → mW G A s M H locs → lv_has ls 2 [] → wb_X4_routeLength_24 G P r M s0 → W p l e (mRm 12 b) s m args below meth c H locs k k (vx_MQ below (mQ G A (mRi P)) (mXC G A (fun _ _ _ => False)) args s b b A) (F0 m 24 ls [.int s0]) := by
    intro k r M H locs ls s0 hk S hl h
    unfold wb_X4_routeLength_24 at h
    exact mm_iret C S hr (Nat.le_trans (Nat.le_add_right _ _) hk) dX4_routeLength_24 h
  unfold wp_X4_routeLength at h
  refine lv_aload_n hx hb dX4_routeLength_0 rfl (lv_at hl 0 rfl) ?_
  refine lv_aload_n hx hb dX4_routeLength_1 rfl (lv_at hl 0 rfl) ?_
  refine lv_iload_n hx hb dX4_routeLength_2 rfl (lv_at hl 1 rfl) ?_
  obtain ⟨hI, h⟩ := h
  refine mm_V (As := [.int x1]) (rest := [.ref a0]) C S hl.1 (wk_X4_noRoute hst0 h) (T := TX4) rfl hI (lw_V q1945 q1947 qs35 q58 q1948) rfl pd_X4_noRoute ⟨Nat.le_of_ble_eq_true rfl, Nat.le_of_ble_eq_true rfl⟩ rfl rfl (Nat.le_of_ble_eq_true rfl) dX4_routeLength_3 rfl rfl hk (Nat.zero_add _) (fun v9 M1 H locs hP S hk => ?_) (fun E q ce M9 H9 locs9 hX => hX.elim)
  obtain ⟨v2, rfl, h⟩ := hP
  refine W.eq (g2 := F0 m 6 ls [.int v2, .ref a0]) rfl ?_
  refine lv_iconst (v := 0) hx hb dX4_routeLength_6 (by decide) ?_
  refine lv_iconst (v := 0) hx hb dX4_routeLength_7 (by decide) ?_
  obtain ⟨hI, h⟩ := h
  refine mm_V (As := [.int v2, .int 0, .int 0]) (rest := []) C S hl.1 (wk_X4_fails hst0 h) (T := TX4) rfl hI (lw_V q1836 q1838 qs22 q58 q1839) rfl pd_X4_fails ⟨Nat.le_of_ble_eq_true rfl, Nat.le_of_ble_eq_true rfl⟩ rfl rfl (Nat.le_of_ble_eq_true rfl) dX4_routeLength_8 rfl rfl hk (Nat.zero_add _) (fun v9 M3 H locs hP S hk => ?_) (fun E q ce M9 H9 locs9 hX => hX.elim)
  obtain ⟨v4, rfl, h⟩ := hP
  refine W.eq (g2 := F0 m 11 ls [.int v4]) rfl ?_
  refine lv_if_eq (tgt := 18) hx hb dX4_routeLength_11 (by decide) (fun c9 => ?_) (fun c9 => ?_)
  · have h := h.1 c9
    refine lv_aload_n hx hb dX4_routeLength_18 rfl (lv_at hl 0 rfl) ?_
    refine mm_gfa C S (ci := 3) (k := 23) rfl in_X4 (by decide) q1693 (fun _ h9 => h9) dX4_routeLength_19 h (fun u5 h => ?_)
    refine lv_iload_n hx hb dX4_routeLength_22 rfl (lv_at hl 1 rfl) ?_
    refine mm_iald C S h dX4_routeLength_23 (fun v6 h => ?_)
    exact j24 _ _ _ _ _ _ _ hk S (lv_sub hl [] rfl) h
  · have h := h.2 c9
    refine lv_iconst (v := 0) hx hb dX4_routeLength_14 (by decide) ?_
    refine lv_goto (tgt := 24) hx hb dX4_routeLength_15 (by decide) ?_
    exact j24 _ _ _ _ _ _ _ hk S (lv_sub hl [] rfl) h
/-! X4_setCell: level 12 -/
def wb_X4_setCell_51 (G : mG) (P : Int32 → mM → Prop) (r : Nat) (M : mM) (a0 : Nat) (x1 : Int32) (x2 : Int32) (x3 : Int32) (x4 : Int32) (s0 : Nat) (s1 : Int32) (s2 : Int32) : Prop :=
  isc M s0 3 ∧ (wp_X4_fails G 0 (fun v10 M9 => (v10 = 0 → gfa M9 a0 3 4 fun u11 => ldi M9 0 u11 x1 fun v12 => gfa M9 a0 3 3 fun u13 => sti M9 0 u13 x1 x2 fun M14 => gfa M14 a0 3 4 fun u15 => sti M14 0 u15 x1 x3 fun M16 => gfa M16 a0 3 5 fun u17 => sti M16 0 u17 x1 x4 fun M18 => gfa M18 a0 3 6 fun u19 => sti M18 0 u19 x1 0 fun M20 => gfa M20 a0 3 7 fun u21 => sti M20 0 u21 x1 0 fun M22 => P v12 M22) ∧ (¬ v10 = 0 → P 0 M9)) M s0 s1 s2 0)
def wb_X4_setCell_46 (G : mG) (P : Int32 → mM → Prop) (r : Nat) (M : mM) (a0 : Nat) (x1 : Int32) (x2 : Int32) (x3 : Int32) (x4 : Int32) (s0 : Nat) (s1 : Int32) : Prop :=
  wb_X4_setCell_51 G P r M a0 x1 x2 x3 x4 s0 s1 1
def wb_X4_setCell_27 (G : mG) (P : Int32 → mM → Prop) (r : Nat) (M : mM) (a0 : Nat) (x1 : Int32) (x2 : Int32) (x3 : Int32) (x4 : Int32) (s0 : Nat) (s1 : Int32) : Prop :=
  wp_X4_isIn G 0 (fun v6 M5 => (v6 = 0 → wb_X4_setCell_46 G P r M5 a0 x1 x2 x3 x4 s0 s1) ∧ (¬ v6 = 0 → wp_X4_isIn G 0 (fun v8 M7 => (¬ v8 = 0 → wb_X4_setCell_51 G P r M7 a0 x1 x2 x3 x4 s0 s1 0) ∧ (v8 = 0 → wb_X4_setCell_46 G P r M7 a0 x1 x2 x3 x4 s0 s1)) M5 x3 0 2)) M x2 0 9
def wb_X4_setCell_22 (G : mG) (P : Int32 → mM → Prop) (r : Nat) (M : mM) (a0 : Nat) (x1 : Int32) (x2 : Int32) (x3 : Int32) (x4 : Int32) (s0 : Nat) : Prop :=
  wb_X4_setCell_27 G P r M a0 x1 x2 x3 x4 s0 1
def wb_X4_setCell_26 (G : mG) (P : Int32 → mM → Prop) (r : Nat) (M : mM) (a0 : Nat) (x1 : Int32) (x2 : Int32) (x3 : Int32) (x4 : Int32) (s0 : Nat) : Prop :=
  wb_X4_setCell_27 G P r M a0 x1 x2 x3 x4 s0 0
def wp_X4_setCell (G : mG) (b : Nat) (P : Int32 → mM → Prop) (M : mM) (a0 : Nat) (x1 : Int32) (x2 : Int32) (x3 : Int32) (x4 : Int32) : Prop :=
  wp_X4_noCell G 0 (fun v2 M1 => (¬ v2 = 0 → wb_X4_setCell_22 G P b M1 a0 x1 x2 x3 x4 a0) ∧ (v2 = 0 → (x4 = (-1) → wb_X4_setCell_26 G P b M1 a0 x1 x2 x3 x4 a0) ∧ (¬ x4 = (-1) → wp_X4_noPond G 0 (fun v4 M3 => (v4 = 0 → wb_X4_setCell_26 G P b M3 a0 x1 x2 x3 x4 a0) ∧ (¬ v4 = 0 → wb_X4_setCell_22 G P b M3 a0 x1 x2 x3 x4 a0)) M1 x4))) M x1
set_option maxHeartbeats 4000000 in
set_option maxRecDepth 100000 in
theorem wk_X4_setCell {l : Launch} (hst0 : l.stackTraces = false) {G : mG} {b : Nat} {P : Int32 → mM → Prop} {M : mM} {a0 : Nat} {x1 : Int32} {x2 : Int32} {x3 : Int32} {x4 : Int32} (h : wp_X4_setCell G b P M a0 x1 x2 x3 x4) : mMet l yX4_setCell (ws_ yX4_setCell cX4_setCell 6 (Option.some Jvm.ClassFile.FieldType.int)) 12 b G [.ref a0, .int x1, .int x2, .int x3, .int x4] M (mRi P) (fun _ _ _ => False) := by
  refine mm_met hst0 (by decide) (Nat.le_of_ble_eq_true rfl) ?_
  intro p e s m args below meth c ls C hr hnt hnm hl S
  have hl : lv_has ls 6 [(0, .ref a0), (1, .int x1), (2, .int x2), (3, .int x3), (4, .int x4)] := hl
  generalize mA M s.heap.size = A at C S ⊢
  have hx := C.hx
  have hb := C.hb
  have hk : 0 + b ≤ b := Nat.le_of_eq (Nat.zero_add b)
  have j51 : ∀ (k r : Nat) (M : mM) (H : Heap) (locs : List Loc) (ls : Array Slot) (a0 : Nat) (x1 : Int32) (x2 : Int32) (x3 : Int32) (x4 : Int32) (s0 : Nat) (s1 : Int32) (s2 : Int32), k + r ≤ b → mW G A s M H locs → lv_has ls 6 [(0, .ref a0), (1, .int x1), (2, .int x2), (3, .int x3), (4, .int x4)] → wb_X4_setCell_51 G P r M a0 x1 x2 x3 x4 s0 s1 s2 → W p l e (mRm 12 b) s m args below meth c H locs k k (vx_MQ below (mQ G A (mRi P)) (mXC G A (fun _ _ _ => False)) args s b b A) (F0 m 51 ls [.int s2, .int s1, .ref s0]) := by
    intro k r M H locs ls a0 x1 x2 x3 x4 s0 s1 s2 hk S hl h
    unfold wb_X4_setCell_51 at h
    refine lv_iconst (v := 0) hx hb dX4_setCell_51 (by decide) ?_
    obtain ⟨hI, h⟩ := h
    refine mm_V (As := [.int s1, .int s2, .int 0]) (rest := []) C S hl.1 (wk_X4_fails hst0 h) (T := TX4) rfl hI (lw_V q1836 q1838 qs22 q58 q1839) rfl pd_X4_fails ⟨Nat.le_of_ble_eq_true rfl, Nat.le_of_ble_eq_true rfl⟩ rfl rfl (Nat.le_of_ble_eq_true rfl) dX4_setCell_52 rfl rfl hk (Nat.zero_add _) (fun v9 M9 H locs hP S hk => ?_) (fun E q ce M9 H9 locs9 hX => hX.elim)
    obtain ⟨v10, rfl, h⟩ := hP
    refine W.eq (g2 := F0 m 55 ls [.int v10]) rfl ?_
    refine lv_if_eq (tgt := 60) hx hb dX4_setCell_55 (by decide) (fun c9 => ?_) (fun c9 => ?_)
    · have h := h.1 c9
      refine lv_aload_n hx hb dX4_setCell_60 rfl (lv_at hl 0 rfl) ?_
      refine mm_gfa C S (ci := 3) (k := 4) rfl in_X4 (by decide) q1674 (fun _ h9 => h9) dX4_setCell_61 h (fun u11 h => ?_)
      refine lv_iload_n hx hb dX4_setCell_64 rfl (lv_at hl 1 rfl) ?_
      refine mm_iald C S h dX4_setCell_65 (fun v12 h => ?_)
      refine lv_istore (lv' := [(5, .int v12), (0, .ref a0), (1, .int x1), (2, .int x2), (3, .int x3), (4, .int x4)]) hx hb dX4_setCell_66 hl (by decide) rfl (fun ls hl => ?_)
      refine lv_aload_n hx hb dX4_setCell_68 rfl (lv_at hl 1 rfl) ?_
      refine mm_gfa C S (ci := 3) (k := 3) rfl in_X4 (by decide) q1673 (fun _ h9 => h9) dX4_setCell_69 h (fun u13 h => ?_)
      refine lv_iload_n hx hb dX4_setCell_72 rfl (lv_at hl 2 rfl) ?_
      refine lv_iload_n hx hb dX4_setCell_73 rfl (lv_at hl 3 rfl) ?_
      refine mm_iast C S h dX4_setCell_74 (fun M14 H locs h S => ?_)
      refine lv_aload_n hx hb dX4_setCell_75 rfl (lv_at hl 1 rfl) ?_
      refine mm_gfa C S (ci := 3) (k := 4) rfl in_X4 (by decide) q1674 (fun _ h9 => h9) dX4_setCell_76 h (fun u15 h => ?_)
      refine lv_iload_n hx hb dX4_setCell_79 rfl (lv_at hl 2 rfl) ?_
      refine lv_iload_n hx hb dX4_setCell_80 rfl (lv_at hl 4 rfl) ?_
      refine mm_iast C S h dX4_setCell_81 (fun M16 H locs h S => ?_)
      refine lv_aload_n hx hb dX4_setCell_82 rfl (lv_at hl 1 rfl) ?_
      refine mm_gfa C S (ci := 3) (k := 5) rfl in_X4 (by decide) q1675 (fun _ h9 => h9) dX4_setCell_83 h (fun u17 h => ?_)
      refine lv_iload_n hx hb dX4_setCell_86 rfl (lv_at hl 2 rfl) ?_
      refine lv_iload hx hb dX4_setCell_87 (lv_at hl 5 rfl) ?_
      refine mm_iast C S h dX4_setCell_89 (fun M18 H locs h S => ?_)
      refine lv_aload_n hx hb dX4_setCell_90 rfl (lv_at hl 1 rfl) ?_
      refine mm_gfa C S (ci := 3) (k := 6) rfl in_X4 (by decide) q1676 (fun _ h9 => h9) dX4_setCell_91 h (fun u19 h => ?_)
      refine lv_iload_n hx hb dX4_setCell_94 rfl (lv_at hl 2 rfl) ?_
      refine lv_iconst (v := 0) hx hb dX4_setCell_95 (by decide) ?_
      refine mm_iast C S h dX4_setCell_96 (fun M20 H locs h S => ?_)
      refine lv_aload_n hx hb dX4_setCell_97 rfl (lv_at hl 1 rfl) ?_
      refine mm_gfa C S (ci := 3) (k := 7) rfl in_X4 (by decide) q1677 (fun _ h9 => h9) dX4_setCell_98 h (fun u21 h => ?_)
      refine lv_iload_n hx hb dX4_setCell_101 rfl (lv_at hl 2 rfl) ?_
      refine lv_iconst (v := 0) hx hb dX4_setCell_102 (by decide) ?_
      refine mm_iast C S h dX4_setCell_103 (fun M22 H locs h S => ?_)
      refine lv_iload hx hb dX4_setCell_104 (lv_at hl 0 rfl) ?_
      exact mm_iret C S hr (Nat.le_trans (Nat.le_add_right _ _) hk) dX4_setCell_106 h
    · have h := h.2 c9
      refine lv_iconst (v := 0) hx hb dX4_setCell_58 (by decide) ?_
      exact mm_iret C S hr (Nat.le_trans (Nat.le_add_right _ _) hk) dX4_setCell_59 h
  have j46 : ∀ (k r : Nat) (M : mM) (H : Heap) (locs : List Loc) (ls : Array Slot) (a0 : Nat) (x1 : Int32) (x2 : Int32) (x3 : Int32) (x4 : Int32) (s0 : Nat) (s1 : Int32), k + r ≤ b → mW G A s M H locs → lv_has ls 6 [(0, .ref a0), (1, .int x1), (2, .int x2), (3, .int x3), (4, .int x4)] → wb_X4_setCell_46 G P r M a0 x1 x2 x3 x4 s0 s1 → W p l e (mRm 12 b) s m args below meth c H locs k k (vx_MQ below (mQ G A (mRi P)) (mXC G A (fun _ _ _ => False)) args s b b A) (F0 m 46 ls [.int s1, .ref s0]) := by
    intro k r M H locs ls a0 x1 x2 x3 x4 s0 s1 hk S hl h
    unfold wb_X4_setCell_46 at h
    refine lv_iconst (v := 1) hx hb dX4_setCell_46 (by decide) ?_
    refine lv_goto (tgt := 51) hx hb dX4_setCell_47 (by decide) ?_
    exact j51 _ _ _ _ _ _ _ _ _ _ _ _ _ _ hk S hl h
  have j27 : ∀ (k r : Nat) (M : mM) (H : Heap) (locs : List Loc) (ls : Array Slot) (a0 : Nat) (x1 : Int32) (x2 : Int32) (x3 : Int32) (x4 : Int32) (s0 : Nat) (s1 : Int32), k + r ≤ b → mW G A s M H locs → lv_has ls 6 [(0, .ref a0), (1, .int x1), (2, .int x2), (3, .int x3), (4, .int x4)] → wb_X4_setCell_27 G P r M a0 x1 x2 x3 x4 s0 s1 → W p l e (mRm 12 b) s m args below meth c H locs k k (vx_MQ below (mQ G A (mRi P)) (mXC G A (fun _ _ _ => False)) args s b b A) (F0 m 27 ls [.int s1, .ref s0]) := by
    intro k r M H locs ls a0 x1 x2 x3 x4 s0 s1 hk S hl h
    unfold wb_X4_setCell_27 at h
    refine lv_iload_n hx hb dX4_setCell_27 rfl (lv_at hl 2 rfl) ?_
    refine lv_iconst (v := 0) hx hb dX4_setCell_28 (by decide) ?_
    refine lv_bipush (v := 9) hx hb dX4_setCell_29 (by decide) ?_
    refine mm_S (As := [.int x2, .int 0, .int 9]) (rest := [.int s1, .ref s0]) C S hl.1 (wk_X4_isIn hst0 h) (lw_S q1830 q1831 q58 q1832) pd_X4_isIn ⟨Nat.le_of_ble_eq_true rfl, Nat.le_of_ble_eq_true rfl⟩ rfl rfl (Nat.le_of_ble_eq_true rfl) dX4_setCell_31 rfl rfl hk (Nat.zero_add _) (fun v9 M5 H locs hP S hk => ?_) (fun E q ce M9 H9 locs9 hX => hX.elim)
    obtain ⟨v6, rfl, h⟩ := hP
    refine W.eq (g2 := F0 m 34 ls [.int v6, .int s1, .ref s0]) rfl ?_
    refine lv_if_eq (tgt := 46) hx hb dX4_setCell_34 (by decide) (fun c9 => ?_) (fun c9 => ?_)
    · have h := h.1 c9
      exact j46 _ _ _ _ _ _ _ _ _ _ _ _ _ hk S hl h
    · have h := h.2 c9
      refine lv_iload_n hx hb dX4_setCell_37 rfl (lv_at hl 3 rfl) ?_
      refine lv_iconst (v := 0) hx hb dX4_setCell_38 (by decide) ?_
      refine lv_iconst (v := 2) hx hb dX4_setCell_39 (by decide) ?_
      refine mm_S (As := [.int x3, .int 0, .int 2]) (rest := [.int s1, .ref s0]) C S hl.1 (wk_X4_isIn hst0 h) (lw_S q1830 q1831 q58 q1832) pd_X4_isIn ⟨Nat.le_of_ble_eq_true rfl, Nat.le_of_ble_eq_true rfl⟩ rfl rfl (Nat.le_of_ble_eq_true rfl) dX4_setCell_40 rfl rfl hk (Nat.zero_add _) (fun v9 M7 H locs hP S hk => ?_) (fun E q ce M9 H9 locs9 hX => hX.elim)
      obtain ⟨v8, rfl, h⟩ := hP
      refine W.eq (g2 := F0 m 43 ls [.int v8, .int s1, .ref s0]) rfl ?_
      refine lv_if_ne (tgt := 50) hx hb dX4_setCell_43 (by decide) (fun c9 => ?_) (fun c9 => ?_)
      · have h := h.1 c9
        refine lv_iconst (v := 0) hx hb dX4_setCell_50 (by decide) ?_
        exact j51 _ _ _ _ _ _ _ _ _ _ _ _ _ _ hk S hl h
      · have h := h.2 c9
        exact j46 _ _ _ _ _ _ _ _ _ _ _ _ _ hk S hl h
  have j22 : ∀ (k r : Nat) (M : mM) (H : Heap) (locs : List Loc) (ls : Array Slot) (a0 : Nat) (x1 : Int32) (x2 : Int32) (x3 : Int32) (x4 : Int32) (s0 : Nat), k + r ≤ b → mW G A s M H locs → lv_has ls 6 [(0, .ref a0), (1, .int x1), (2, .int x2), (3, .int x3), (4, .int x4)] → wb_X4_setCell_22 G P r M a0 x1 x2 x3 x4 s0 → W p l e (mRm 12 b) s m args below meth c H locs k k (vx_MQ below (mQ G A (mRi P)) (mXC G A (fun _ _ _ => False)) args s b b A) (F0 m 22 ls [.ref s0]) := by
    intro k r M H locs ls a0 x1 x2 x3 x4 s0 hk S hl h
    unfold wb_X4_setCell_22 at h
    refine lv_iconst (v := 1) hx hb dX4_setCell_22 (by decide) ?_
    refine lv_goto (tgt := 27) hx hb dX4_setCell_23 (by decide) ?_
    exact j27 _ _ _ _ _ _ _ _ _ _ _ _ _ hk S hl h
  have j26 : ∀ (k r : Nat) (M : mM) (H : Heap) (locs : List Loc) (ls : Array Slot) (a0 : Nat) (x1 : Int32) (x2 : Int32) (x3 : Int32) (x4 : Int32) (s0 : Nat), k + r ≤ b → mW G A s M H locs → lv_has ls 6 [(0, .ref a0), (1, .int x1), (2, .int x2), (3, .int x3), (4, .int x4)] → wb_X4_setCell_26 G P r M a0 x1 x2 x3 x4 s0 → W p l e (mRm 12 b) s m args below meth c H locs k k (vx_MQ below (mQ G A (mRi P)) (mXC G A (fun _ _ _ => False)) args s b b A) (F0 m 26 ls [.ref s0]) := by
    intro k r M H locs ls a0 x1 x2 x3 x4 s0 hk S hl h
    unfold wb_X4_setCell_26 at h
    refine lv_iconst (v := 0) hx hb dX4_setCell_26 (by decide) ?_
    exact j27 _ _ _ _ _ _ _ _ _ _ _ _ _ hk S hl h
  unfold wp_X4_setCell at h
  refine lv_aload_n hx hb dX4_setCell_0 rfl (lv_at hl 0 rfl) ?_
  refine lv_iload_n hx hb dX4_setCell_1 rfl (lv_at hl 1 rfl) ?_
  refine mm_S (As := [.int x1]) (rest := [.ref a0]) C S hl.1 (wk_X4_noCell hst0 h) (lw_S q1827 q1828 q58 q1829) pd_X4_noCell ⟨Nat.le_of_ble_eq_true rfl, Nat.le_of_ble_eq_true rfl⟩ rfl rfl (Nat.le_of_ble_eq_true rfl) dX4_setCell_2 rfl rfl hk (Nat.zero_add _) (fun v9 M1 H locs hP S hk => ?_) (fun E q ce M9 H9 locs9 hX => hX.elim)
  obtain ⟨v2, rfl, h⟩ := hP
  refine W.eq (g2 := F0 m 5 ls [.int v2, .ref a0]) rfl ?_
  refine lv_if_ne (tgt := 22) hx hb dX4_setCell_5 (by decide) (fun c9 => ?_) (fun c9 => ?_)
  · have h := h.1 c9
    exact j22 _ _ _ _ _ _ _ _ _ _ _ _ hk S hl h
  · have h := h.2 c9
    refine lv_iload hx hb dX4_setCell_8 (lv_at hl 4 rfl) ?_
    refine lv_iconst (v := (-1)) hx hb dX4_setCell_10 (by decide) ?_
    refine lv_icmp_eq (tgt := 26) hx hb dX4_setCell_11 (by decide) (fun c9 => ?_) (fun c9 => ?_)
    · have h := h.1 c9
      exact j26 _ _ _ _ _ _ _ _ _ _ _ _ hk S hl h
    · have h := h.2 c9
      refine lv_iload hx hb dX4_setCell_14 (lv_at hl 4 rfl) ?_
      refine mm_S (As := [.int x4]) (rest := [.ref a0]) C S hl.1 (wk_X4_noPond hst0 h) (lw_S q1833 q1834 q58 q1835) pd_X4_noPond ⟨Nat.le_of_ble_eq_true rfl, Nat.le_of_ble_eq_true rfl⟩ rfl rfl (Nat.le_of_ble_eq_true rfl) dX4_setCell_16 rfl rfl hk (Nat.zero_add _) (fun v9 M3 H locs hP S hk => ?_) (fun E q ce M9 H9 locs9 hX => hX.elim)
      obtain ⟨v4, rfl, h⟩ := hP
      refine W.eq (g2 := F0 m 19 ls [.int v4, .ref a0]) rfl ?_
      refine lv_if_eq (tgt := 26) hx hb dX4_setCell_19 (by decide) (fun c9 => ?_) (fun c9 => ?_)
      · have h := h.1 c9
        exact j26 _ _ _ _ _ _ _ _ _ _ _ _ hk S hl h
      · have h := h.2 c9
        exact j22 _ _ _ _ _ _ _ _ _ _ _ _ hk S hl h
/-! X4_setInflow: level 12 -/
def wb_X4_setInflow_20 (G : mG) (P : Int32 → mM → Prop) (r : Nat) (M : mM) (a0 : Nat) (x1 : Int32) (x2 : Int32) (s0 : Nat) (s1 : Int32) (s2 : Int32) : Prop :=
  isc M s0 3 ∧ (wp_X4_fails G 0 (fun v6 M5 => (v6 = 0 → gfa M5 a0 3 9 fun u7 => ldi M5 0 u7 x1 fun v8 => gfa M5 a0 3 9 fun u9 => sti M5 0 u9 x1 x2 fun M10 => P v8 M10) ∧ (¬ v6 = 0 → P 0 M5)) M s0 s1 s2 0)
def wp_X4_setInflow (G : mG) (b : Nat) (P : Int32 → mM → Prop) (M : mM) (a0 : Nat) (x1 : Int32) (x2 : Int32) : Prop :=
  wp_X4_noPond G 0 (fun v2 M1 => wp_X4_isIn G 0 (fun v4 M3 => (¬ v4 = 0 → wb_X4_setInflow_20 G P b M3 a0 x1 x2 a0 v2 0) ∧ (v4 = 0 → wb_X4_setInflow_20 G P b M3 a0 x1 x2 a0 v2 1)) M1 x2 (-3) 3) M x1
set_option maxHeartbeats 4000000 in
set_option maxRecDepth 100000 in
theorem wk_X4_setInflow {l : Launch} (hst0 : l.stackTraces = false) {G : mG} {b : Nat} {P : Int32 → mM → Prop} {M : mM} {a0 : Nat} {x1 : Int32} {x2 : Int32} (h : wp_X4_setInflow G b P M a0 x1 x2) : mMet l yX4_setInflow (ws_ yX4_setInflow cX4_setInflow 4 (Option.some Jvm.ClassFile.FieldType.int)) 12 b G [.ref a0, .int x1, .int x2] M (mRi P) (fun _ _ _ => False) := by
  refine mm_met hst0 (by decide) (Nat.le_of_ble_eq_true rfl) ?_
  intro p e s m args below meth c ls C hr hnt hnm hl S
  have hl : lv_has ls 4 [(0, .ref a0), (1, .int x1), (2, .int x2)] := hl
  generalize mA M s.heap.size = A at C S ⊢
  have hx := C.hx
  have hb := C.hb
  have hk : 0 + b ≤ b := Nat.le_of_eq (Nat.zero_add b)
  have j20 : ∀ (k r : Nat) (M : mM) (H : Heap) (locs : List Loc) (ls : Array Slot) (a0 : Nat) (x1 : Int32) (x2 : Int32) (s0 : Nat) (s1 : Int32) (s2 : Int32), k + r ≤ b → mW G A s M H locs → lv_has ls 4 [(0, .ref a0), (1, .int x1), (2, .int x2)] → wb_X4_setInflow_20 G P r M a0 x1 x2 s0 s1 s2 → W p l e (mRm 12 b) s m args below meth c H locs k k (vx_MQ below (mQ G A (mRi P)) (mXC G A (fun _ _ _ => False)) args s b b A) (F0 m 20 ls [.int s2, .int s1, .ref s0]) := by
    intro k r M H locs ls a0 x1 x2 s0 s1 s2 hk S hl h
    unfold wb_X4_setInflow_20 at h
    refine lv_iconst (v := 0) hx hb dX4_setInflow_20 (by decide) ?_
    obtain ⟨hI, h⟩ := h
    refine mm_V (As := [.int s1, .int s2, .int 0]) (rest := []) C S hl.1 (wk_X4_fails hst0 h) (T := TX4) rfl hI (lw_V q1836 q1838 qs22 q58 q1839) rfl pd_X4_fails ⟨Nat.le_of_ble_eq_true rfl, Nat.le_of_ble_eq_true rfl⟩ rfl rfl (Nat.le_of_ble_eq_true rfl) dX4_setInflow_21 rfl rfl hk (Nat.zero_add _) (fun v9 M5 H locs hP S hk => ?_) (fun E q ce M9 H9 locs9 hX => hX.elim)
    obtain ⟨v6, rfl, h⟩ := hP
    refine W.eq (g2 := F0 m 24 ls [.int v6]) rfl ?_
    refine lv_if_eq (tgt := 29) hx hb dX4_setInflow_24 (by decide) (fun c9 => ?_) (fun c9 => ?_)
    · have h := h.1 c9
      refine lv_aload_n hx hb dX4_setInflow_29 rfl (lv_at hl 0 rfl) ?_
      refine mm_gfa C S (ci := 3) (k := 9) rfl in_X4 (by decide) q1679 (fun _ h9 => h9) dX4_setInflow_30 h (fun u7 h => ?_)
      refine lv_iload_n hx hb dX4_setInflow_33 rfl (lv_at hl 1 rfl) ?_
      refine mm_iald C S h dX4_setInflow_34 (fun v8 h => ?_)
      refine lv_istore_n (lv' := [(3, .int v8), (0, .ref a0), (1, .int x1), (2, .int x2)]) hx hb dX4_setInflow_35 rfl hl (by decide) rfl (fun ls hl => ?_)
      refine lv_aload_n hx hb dX4_setInflow_36 rfl (lv_at hl 1 rfl) ?_
      refine mm_gfa C S (ci := 3) (k := 9) rfl in_X4 (by decide) q1679 (fun _ h9 => h9) dX4_setInflow_37 h (fun u9 h => ?_)
      refine lv_iload_n hx hb dX4_setInflow_40 rfl (lv_at hl 2 rfl) ?_
      refine lv_iload_n hx hb dX4_setInflow_41 rfl (lv_at hl 3 rfl) ?_
      refine mm_iast C S h dX4_setInflow_42 (fun M10 H locs h S => ?_)
      refine lv_iload_n hx hb dX4_setInflow_43 rfl (lv_at hl 0 rfl) ?_
      exact mm_iret C S hr (Nat.le_trans (Nat.le_add_right _ _) hk) dX4_setInflow_44 h
    · have h := h.2 c9
      refine lv_iconst (v := 0) hx hb dX4_setInflow_27 (by decide) ?_
      exact mm_iret C S hr (Nat.le_trans (Nat.le_add_right _ _) hk) dX4_setInflow_28 h
  unfold wp_X4_setInflow at h
  refine lv_aload_n hx hb dX4_setInflow_0 rfl (lv_at hl 0 rfl) ?_
  refine lv_iload_n hx hb dX4_setInflow_1 rfl (lv_at hl 1 rfl) ?_
  refine mm_S (As := [.int x1]) (rest := [.ref a0]) C S hl.1 (wk_X4_noPond hst0 h) (lw_S q1833 q1834 q58 q1835) pd_X4_noPond ⟨Nat.le_of_ble_eq_true rfl, Nat.le_of_ble_eq_true rfl⟩ rfl rfl (Nat.le_of_ble_eq_true rfl) dX4_setInflow_2 rfl rfl hk (Nat.zero_add _) (fun v9 M1 H locs hP S hk => ?_) (fun E q ce M9 H9 locs9 hX => hX.elim)
  obtain ⟨v2, rfl, h⟩ := hP
  refine W.eq (g2 := F0 m 5 ls [.int v2, .ref a0]) rfl ?_
  refine lv_iload_n hx hb dX4_setInflow_5 rfl (lv_at hl 2 rfl) ?_
  refine lv_bipush (v := (-3)) hx hb dX4_setInflow_6 (by decide) ?_
  refine lv_iconst (v := 3) hx hb dX4_setInflow_8 (by decide) ?_
  refine mm_S (As := [.int x2, .int (-3), .int 3]) (rest := [.int v2, .ref a0]) C S hl.1 (wk_X4_isIn hst0 h) (lw_S q1830 q1831 q58 q1832) pd_X4_isIn ⟨Nat.le_of_ble_eq_true rfl, Nat.le_of_ble_eq_true rfl⟩ rfl rfl (Nat.le_of_ble_eq_true rfl) dX4_setInflow_9 rfl rfl hk (Nat.zero_add _) (fun v9 M3 H locs hP S hk => ?_) (fun E q ce M9 H9 locs9 hX => hX.elim)
  obtain ⟨v4, rfl, h⟩ := hP
  refine W.eq (g2 := F0 m 12 ls [.int v4, .int v2, .ref a0]) rfl ?_
  refine lv_if_ne (tgt := 19) hx hb dX4_setInflow_12 (by decide) (fun c9 => ?_) (fun c9 => ?_)
  · have h := h.1 c9
    refine lv_iconst (v := 0) hx hb dX4_setInflow_19 (by decide) ?_
    exact j20 _ _ _ _ _ _ _ _ _ _ _ _ hk S hl h
  · have h := h.2 c9
    refine lv_iconst (v := 1) hx hb dX4_setInflow_15 (by decide) ?_
    refine lv_goto (tgt := 20) hx hb dX4_setInflow_16 (by decide) ?_
    exact j20 _ _ _ _ _ _ _ _ _ _ _ _ hk S hl h
/-! X4_setKind: level 12 -/
def wb_X4_setKind_42 (G : mG) (P : Int32 → mM → Prop) (r : Nat) (M : mM) (a0 : Nat) (x1 : Int32) (x2 : Int32) (x3 : Int32) (x4 : Int32) (s0 : Nat) (s1 : Int32) (s2 : Int32) : Prop :=
  isc M s0 3 ∧ (wp_X4_fails G 0 (fun v10 M9 => (v10 = 0 → gfa M9 a0 3 12 fun u11 => ldi M9 0 u11 x1 fun v12 => gfa M9 a0 3 10 fun u13 => sti M9 0 u13 x1 x2 fun M14 => gfa M14 a0 3 11 fun u15 => sti M14 0 u15 x1 x3 fun M16 => gfa M16 a0 3 12 fun u17 => sti M16 0 u17 x1 x4 fun M18 => P v12 M18) ∧ (¬ v10 = 0 → P 0 M9)) M s0 s1 s2 0)
def wb_X4_setKind_37 (G : mG) (P : Int32 → mM → Prop) (r : Nat) (M : mM) (a0 : Nat) (x1 : Int32) (x2 : Int32) (x3 : Int32) (x4 : Int32) (s0 : Nat) (s1 : Int32) : Prop :=
  wb_X4_setKind_42 G P r M a0 x1 x2 x3 x4 s0 s1 1
def wp_X4_setKind (G : mG) (b : Nat) (P : Int32 → mM → Prop) (M : mM) (a0 : Nat) (x1 : Int32) (x2 : Int32) (x3 : Int32) (x4 : Int32) : Prop :=
  wp_X4_noKind G 0 (fun v2 M1 => wp_X4_isIn G 0 (fun v4 M3 => (v4 = 0 → wb_X4_setKind_37 G P b M3 a0 x1 x2 x3 x4 a0 v2) ∧ (¬ v4 = 0 → wp_X4_isIn G 0 (fun v6 M5 => (v6 = 0 → wb_X4_setKind_37 G P b M5 a0 x1 x2 x3 x4 a0 v2) ∧ (¬ v6 = 0 → wp_X4_isIn G 0 (fun v8 M7 => (¬ v8 = 0 → wb_X4_setKind_42 G P b M7 a0 x1 x2 x3 x4 a0 v2 0) ∧ (v8 = 0 → wb_X4_setKind_37 G P b M7 a0 x1 x2 x3 x4 a0 v2)) M5 x4 0 100)) M3 x3 x2 9)) M1 x2 (-9) 9) M x1
set_option maxHeartbeats 4000000 in
set_option maxRecDepth 100000 in
theorem wk_X4_setKind {l : Launch} (hst0 : l.stackTraces = false) {G : mG} {b : Nat} {P : Int32 → mM → Prop} {M : mM} {a0 : Nat} {x1 : Int32} {x2 : Int32} {x3 : Int32} {x4 : Int32} (h : wp_X4_setKind G b P M a0 x1 x2 x3 x4) : mMet l yX4_setKind (ws_ yX4_setKind cX4_setKind 6 (Option.some Jvm.ClassFile.FieldType.int)) 12 b G [.ref a0, .int x1, .int x2, .int x3, .int x4] M (mRi P) (fun _ _ _ => False) := by
  refine mm_met hst0 (by decide) (Nat.le_of_ble_eq_true rfl) ?_
  intro p e s m args below meth c ls C hr hnt hnm hl S
  have hl : lv_has ls 6 [(0, .ref a0), (1, .int x1), (2, .int x2), (3, .int x3), (4, .int x4)] := hl
  generalize mA M s.heap.size = A at C S ⊢
  have hx := C.hx
  have hb := C.hb
  have hk : 0 + b ≤ b := Nat.le_of_eq (Nat.zero_add b)
  have j42 : ∀ (k r : Nat) (M : mM) (H : Heap) (locs : List Loc) (ls : Array Slot) (a0 : Nat) (x1 : Int32) (x2 : Int32) (x3 : Int32) (x4 : Int32) (s0 : Nat) (s1 : Int32) (s2 : Int32), k + r ≤ b → mW G A s M H locs → lv_has ls 6 [(0, .ref a0), (1, .int x1), (2, .int x2), (3, .int x3), (4, .int x4)] → wb_X4_setKind_42 G P r M a0 x1 x2 x3 x4 s0 s1 s2 → W p l e (mRm 12 b) s m args below meth c H locs k k (vx_MQ below (mQ G A (mRi P)) (mXC G A (fun _ _ _ => False)) args s b b A) (F0 m 42 ls [.int s2, .int s1, .ref s0]) := by
    intro k r M H locs ls a0 x1 x2 x3 x4 s0 s1 s2 hk S hl h
    unfold wb_X4_setKind_42 at h
    refine lv_iconst (v := 0) hx hb dX4_setKind_42 (by decide) ?_
    obtain ⟨hI, h⟩ := h
    refine mm_V (As := [.int s1, .int s2, .int 0]) (rest := []) C S hl.1 (wk_X4_fails hst0 h) (T := TX4) rfl hI (lw_V q1836 q1838 qs22 q58 q1839) rfl pd_X4_fails ⟨Nat.le_of_ble_eq_true rfl, Nat.le_of_ble_eq_true rfl⟩ rfl rfl (Nat.le_of_ble_eq_true rfl) dX4_setKind_43 rfl rfl hk (Nat.zero_add _) (fun v9 M9 H locs hP S hk => ?_) (fun E q ce M9 H9 locs9 hX => hX.elim)
    obtain ⟨v10, rfl, h⟩ := hP
    refine W.eq (g2 := F0 m 46 ls [.int v10]) rfl ?_
    refine lv_if_eq (tgt := 51) hx hb dX4_setKind_46 (by decide) (fun c9 => ?_) (fun c9 => ?_)
    · have h := h.1 c9
      refine lv_aload_n hx hb dX4_setKind_51 rfl (lv_at hl 0 rfl) ?_
      refine mm_gfa C S (ci := 3) (k := 12) rfl in_X4 (by decide) q1682 (fun _ h9 => h9) dX4_setKind_52 h (fun u11 h => ?_)
      refine lv_iload_n hx hb dX4_setKind_55 rfl (lv_at hl 1 rfl) ?_
      refine mm_iald C S h dX4_setKind_56 (fun v12 h => ?_)
      refine lv_istore (lv' := [(5, .int v12), (0, .ref a0), (1, .int x1), (2, .int x2), (3, .int x3), (4, .int x4)]) hx hb dX4_setKind_57 hl (by decide) rfl (fun ls hl => ?_)
      refine lv_aload_n hx hb dX4_setKind_59 rfl (lv_at hl 1 rfl) ?_
      refine mm_gfa C S (ci := 3) (k := 10) rfl in_X4 (by decide) q1680 (fun _ h9 => h9) dX4_setKind_60 h (fun u13 h => ?_)
      refine lv_iload_n hx hb dX4_setKind_63 rfl (lv_at hl 2 rfl) ?_
      refine lv_iload_n hx hb dX4_setKind_64 rfl (lv_at hl 3 rfl) ?_
      refine mm_iast C S h dX4_setKind_65 (fun M14 H locs h S => ?_)
      refine lv_aload_n hx hb dX4_setKind_66 rfl (lv_at hl 1 rfl) ?_
      refine mm_gfa C S (ci := 3) (k := 11) rfl in_X4 (by decide) q1681 (fun _ h9 => h9) dX4_setKind_67 h (fun u15 h => ?_)
      refine lv_iload_n hx hb dX4_setKind_70 rfl (lv_at hl 2 rfl) ?_
      refine lv_iload_n hx hb dX4_setKind_71 rfl (lv_at hl 4 rfl) ?_
      refine mm_iast C S h dX4_setKind_72 (fun M16 H locs h S => ?_)
      refine lv_aload_n hx hb dX4_setKind_73 rfl (lv_at hl 1 rfl) ?_
      refine mm_gfa C S (ci := 3) (k := 12) rfl in_X4 (by decide) q1682 (fun _ h9 => h9) dX4_setKind_74 h (fun u17 h => ?_)
      refine lv_iload_n hx hb dX4_setKind_77 rfl (lv_at hl 2 rfl) ?_
      refine lv_iload hx hb dX4_setKind_78 (lv_at hl 5 rfl) ?_
      refine mm_iast C S h dX4_setKind_80 (fun M18 H locs h S => ?_)
      refine lv_iload hx hb dX4_setKind_81 (lv_at hl 0 rfl) ?_
      exact mm_iret C S hr (Nat.le_trans (Nat.le_add_right _ _) hk) dX4_setKind_83 h
    · have h := h.2 c9
      refine lv_iconst (v := 0) hx hb dX4_setKind_49 (by decide) ?_
      exact mm_iret C S hr (Nat.le_trans (Nat.le_add_right _ _) hk) dX4_setKind_50 h
  have j37 : ∀ (k r : Nat) (M : mM) (H : Heap) (locs : List Loc) (ls : Array Slot) (a0 : Nat) (x1 : Int32) (x2 : Int32) (x3 : Int32) (x4 : Int32) (s0 : Nat) (s1 : Int32), k + r ≤ b → mW G A s M H locs → lv_has ls 6 [(0, .ref a0), (1, .int x1), (2, .int x2), (3, .int x3), (4, .int x4)] → wb_X4_setKind_37 G P r M a0 x1 x2 x3 x4 s0 s1 → W p l e (mRm 12 b) s m args below meth c H locs k k (vx_MQ below (mQ G A (mRi P)) (mXC G A (fun _ _ _ => False)) args s b b A) (F0 m 37 ls [.int s1, .ref s0]) := by
    intro k r M H locs ls a0 x1 x2 x3 x4 s0 s1 hk S hl h
    unfold wb_X4_setKind_37 at h
    refine lv_iconst (v := 1) hx hb dX4_setKind_37 (by decide) ?_
    refine lv_goto (tgt := 42) hx hb dX4_setKind_38 (by decide) ?_
    exact j42 _ _ _ _ _ _ _ _ _ _ _ _ _ _ hk S hl h
  unfold wp_X4_setKind at h
  refine lv_aload_n hx hb dX4_setKind_0 rfl (lv_at hl 0 rfl) ?_
  refine lv_iload_n hx hb dX4_setKind_1 rfl (lv_at hl 1 rfl) ?_
  refine mm_S (As := [.int x1]) (rest := [.ref a0]) C S hl.1 (wk_X4_noKind hst0 h) (lw_S q1856 q1857 q58 q1858) pd_X4_noKind ⟨Nat.le_of_ble_eq_true rfl, Nat.le_of_ble_eq_true rfl⟩ rfl rfl (Nat.le_of_ble_eq_true rfl) dX4_setKind_2 rfl rfl hk (Nat.zero_add _) (fun v9 M1 H locs hP S hk => ?_) (fun E q ce M9 H9 locs9 hX => hX.elim)
  obtain ⟨v2, rfl, h⟩ := hP
  refine W.eq (g2 := F0 m 5 ls [.int v2, .ref a0]) rfl ?_
  refine lv_iload_n hx hb dX4_setKind_5 rfl (lv_at hl 2 rfl) ?_
  refine lv_bipush (v := (-9)) hx hb dX4_setKind_6 (by decide) ?_
  refine lv_bipush (v := 9) hx hb dX4_setKind_8 (by decide) ?_
  refine mm_S (As := [.int x2, .int (-9), .int 9]) (rest := [.int v2, .ref a0]) C S hl.1 (wk_X4_isIn hst0 h) (lw_S q1830 q1831 q58 q1832) pd_X4_isIn ⟨Nat.le_of_ble_eq_true rfl, Nat.le_of_ble_eq_true rfl⟩ rfl rfl (Nat.le_of_ble_eq_true rfl) dX4_setKind_10 rfl rfl hk (Nat.zero_add _) (fun v9 M3 H locs hP S hk => ?_) (fun E q ce M9 H9 locs9 hX => hX.elim)
  obtain ⟨v4, rfl, h⟩ := hP
  refine W.eq (g2 := F0 m 13 ls [.int v4, .int v2, .ref a0]) rfl ?_
  refine lv_if_eq (tgt := 37) hx hb dX4_setKind_13 (by decide) (fun c9 => ?_) (fun c9 => ?_)
  · have h := h.1 c9
    exact j37 _ _ _ _ _ _ _ _ _ _ _ _ _ hk S hl h
  · have h := h.2 c9
    refine lv_iload_n hx hb dX4_setKind_16 rfl (lv_at hl 3 rfl) ?_
    refine lv_iload_n hx hb dX4_setKind_17 rfl (lv_at hl 2 rfl) ?_
    refine lv_bipush (v := 9) hx hb dX4_setKind_18 (by decide) ?_
    refine mm_S (As := [.int x3, .int x2, .int 9]) (rest := [.int v2, .ref a0]) C S hl.1 (wk_X4_isIn hst0 h) (lw_S q1830 q1831 q58 q1832) pd_X4_isIn ⟨Nat.le_of_ble_eq_true rfl, Nat.le_of_ble_eq_true rfl⟩ rfl rfl (Nat.le_of_ble_eq_true rfl) dX4_setKind_20 rfl rfl hk (Nat.zero_add _) (fun v9 M5 H locs hP S hk => ?_) (fun E q ce M9 H9 locs9 hX => hX.elim)
    obtain ⟨v6, rfl, h⟩ := hP
    refine W.eq (g2 := F0 m 23 ls [.int v6, .int v2, .ref a0]) rfl ?_
    refine lv_if_eq (tgt := 37) hx hb dX4_setKind_23 (by decide) (fun c9 => ?_) (fun c9 => ?_)
    · have h := h.1 c9
      exact j37 _ _ _ _ _ _ _ _ _ _ _ _ _ hk S hl h
    · have h := h.2 c9
      refine lv_iload hx hb dX4_setKind_26 (lv_at hl 4 rfl) ?_
      refine lv_iconst (v := 0) hx hb dX4_setKind_28 (by decide) ?_
      refine lv_bipush (v := 100) hx hb dX4_setKind_29 (by decide) ?_
      refine mm_S (As := [.int x4, .int 0, .int 100]) (rest := [.int v2, .ref a0]) C S hl.1 (wk_X4_isIn hst0 h) (lw_S q1830 q1831 q58 q1832) pd_X4_isIn ⟨Nat.le_of_ble_eq_true rfl, Nat.le_of_ble_eq_true rfl⟩ rfl rfl (Nat.le_of_ble_eq_true rfl) dX4_setKind_31 rfl rfl hk (Nat.zero_add _) (fun v9 M7 H locs hP S hk => ?_) (fun E q ce M9 H9 locs9 hX => hX.elim)
      obtain ⟨v8, rfl, h⟩ := hP
      refine W.eq (g2 := F0 m 34 ls [.int v8, .int v2, .ref a0]) rfl ?_
      refine lv_if_ne (tgt := 41) hx hb dX4_setKind_34 (by decide) (fun c9 => ?_) (fun c9 => ?_)
      · have h := h.1 c9
        refine lv_iconst (v := 0) hx hb dX4_setKind_41 (by decide) ?_
        exact j42 _ _ _ _ _ _ _ _ _ _ _ _ _ _ hk S hl h
      · have h := h.2 c9
        exact j37 _ _ _ _ _ _ _ _ _ _ _ _ _ hk S hl h
/-! X4_setSluice: level 11 -/
def wb_X4_setSluice_20 (G : mG) (P : Int32 → mM → Prop) (r : Nat) (M : mM) (a0 : Nat) (x1 : Int32) (x2 : Int32) (s0 : Nat) (s1 : Int32) : Prop :=
  isc M s0 3 ∧ (wp_X4_fails G 0 (fun v5 M4 => (v5 = 0 → gfa M4 a0 3 17 fun u6 => ldi M4 1 u6 x1 fun v7 => gfa M4 a0 3 17 fun u8 => stn M4 1 u8 .boolean x1 x2 fun M9 => narrow .boolean (.int v7) = .int v7 ∧ P v7 M9) ∧ (¬ v5 = 0 → narrow .boolean (.int 0) = .int 0 ∧ P 0 M4)) M s0 s1 0 0)
def wp_X4_setSluice (G : mG) (b : Nat) (P : Int32 → mM → Prop) (M : mM) (a0 : Nat) (x1 : Int32) (x2 : Int32) : Prop :=
  gfi M a0 3 13 fun v1 => wp_X4_isIn G 0 (fun v3 M2 => (¬ v3 = 0 → wb_X4_setSluice_20 G P b M2 a0 x1 x2 a0 0) ∧ (v3 = 0 → wb_X4_setSluice_20 G P b M2 a0 x1 x2 a0 1)) M x1 0 (v1 - 1)
set_option maxHeartbeats 4000000 in
set_option maxRecDepth 100000 in
theorem wk_X4_setSluice {l : Launch} (hst0 : l.stackTraces = false) {G : mG} {b : Nat} {P : Int32 → mM → Prop} {M : mM} {a0 : Nat} {x1 : Int32} {x2 : Int32} (h : wp_X4_setSluice G b P M a0 x1 x2) : mMet l yX4_setSluice (ws_ yX4_setSluice cX4_setSluice 4 (Option.some Jvm.ClassFile.FieldType.boolean)) 11 b G [.ref a0, .int x1, .int x2] M (mRi P) (fun _ _ _ => False) := by
  refine mm_met hst0 (by decide) (Nat.le_of_ble_eq_true rfl) ?_
  intro p e s m args below meth c ls C hr hnt hnm hl S
  have hl : lv_has ls 4 [(0, .ref a0), (1, .int x1), (2, .int x2)] := hl
  generalize mA M s.heap.size = A at C S ⊢
  have hx := C.hx
  have hb := C.hb
  have hk : 0 + b ≤ b := Nat.le_of_eq (Nat.zero_add b)
  have j20 : ∀ (k r : Nat) (M : mM) (H : Heap) (locs : List Loc) (ls : Array Slot) (a0 : Nat) (x1 : Int32) (x2 : Int32) (s0 : Nat) (s1 : Int32), k + r ≤ b → mW G A s M H locs → lv_has ls 4 [(0, .ref a0), (1, .int x1), (2, .int x2)] → wb_X4_setSluice_20 G P r M a0 x1 x2 s0 s1 → W p l e (mRm 11 b) s m args below meth c H locs k k (vx_MQ below (mQ G A (mRi P)) (mXC G A (fun _ _ _ => False)) args s b b A) (F0 m 20 ls [.int s1, .ref s0]) := by
    intro k r M H locs ls a0 x1 x2 s0 s1 hk S hl h
    unfold wb_X4_setSluice_20 at h
    refine lv_iconst (v := 0) hx hb dX4_setSluice_20 (by decide) ?_
    refine lv_iconst (v := 0) hx hb dX4_setSluice_21 (by decide) ?_
    obtain ⟨hI, h⟩ := h
    refine mm_V (As := [.int s1, .int 0, .int 0]) (rest := []) C S hl.1 (wk_X4_fails hst0 h) (T := TX4) rfl hI (lw_V q1836 q1838 qs22 q58 q1839) rfl pd_X4_fails ⟨Nat.le_of_ble_eq_true rfl, Nat.le_of_ble_eq_true rfl⟩ rfl rfl (Nat.le_of_ble_eq_true rfl) dX4_setSluice_22 rfl rfl hk (Nat.zero_add _) (fun v9 M4 H locs hP S hk => ?_) (fun E q ce M9 H9 locs9 hX => hX.elim)
    obtain ⟨v5, rfl, h⟩ := hP
    refine W.eq (g2 := F0 m 25 ls [.int v5]) rfl ?_
    refine lv_if_eq (tgt := 30) hx hb dX4_setSluice_25 (by decide) (fun c9 => ?_) (fun c9 => ?_)
    · have h := h.1 c9
      refine lv_aload_n hx hb dX4_setSluice_30 rfl (lv_at hl 0 rfl) ?_
      refine mm_gfa C S (ci := 3) (k := 17) rfl in_X4 (by decide) q1687 (fun _ h9 => h9) dX4_setSluice_31 h (fun u6 h => ?_)
      refine lv_iload_n hx hb dX4_setSluice_34 rfl (lv_at hl 1 rfl) ?_
      refine mm_zald C S h dX4_setSluice_35 (fun v7 h => ?_)
      refine lv_istore_n (lv' := [(3, .int v7), (0, .ref a0), (1, .int x1), (2, .int x2)]) hx hb dX4_setSluice_36 rfl hl (by decide) rfl (fun ls hl => ?_)
      refine lv_aload_n hx hb dX4_setSluice_37 rfl (lv_at hl 1 rfl) ?_
      refine mm_gfa C S (ci := 3) (k := 17) rfl in_X4 (by decide) q1687 (fun _ h9 => h9) dX4_setSluice_38 h (fun u8 h => ?_)
      refine lv_iload_n hx hb dX4_setSluice_41 rfl (lv_at hl 2 rfl) ?_
      refine lv_iload_n hx hb dX4_setSluice_42 rfl (lv_at hl 3 rfl) ?_
      refine mm_zast C S h dX4_setSluice_43 (fun M9 H locs h S => ?_)
      refine lv_iload_n hx hb dX4_setSluice_44 rfl (lv_at hl 0 rfl) ?_
      exact mm_zret C S hr (Nat.le_trans (Nat.le_add_right _ _) hk) dX4_setSluice_45 h
    · have h := h.2 c9
      refine lv_iconst (v := 0) hx hb dX4_setSluice_28 (by decide) ?_
      exact mm_zret C S hr (Nat.le_trans (Nat.le_add_right _ _) hk) dX4_setSluice_29 h
  unfold wp_X4_setSluice at h
  refine lv_aload_n hx hb dX4_setSluice_0 rfl (lv_at hl 0 rfl) ?_
  refine lv_iload_n hx hb dX4_setSluice_1 rfl (lv_at hl 1 rfl) ?_
  refine lv_iconst (v := 0) hx hb dX4_setSluice_2 (by decide) ?_
  refine lv_aload_n hx hb dX4_setSluice_3 rfl (lv_at hl 0 rfl) ?_
  refine mm_gfi C S (ci := 3) (k := 13) rfl in_X4 (by decide) q1683 (fun _ h9 => h9) dX4_setSluice_4 h (fun v1 h => ?_)
  refine lv_iconst (v := 1) hx hb dX4_setSluice_7 (by decide) ?_
  refine lv_isub hx hb dX4_setSluice_8 ?_
  refine mm_S (As := [.int x1, .int 0, .int (v1 - 1)]) (rest := [.ref a0]) C S hl.1 (wk_X4_isIn hst0 h) (lw_S q1830 q1831 q58 q1832) pd_X4_isIn ⟨Nat.le_of_ble_eq_true rfl, Nat.le_of_ble_eq_true rfl⟩ rfl rfl (Nat.le_of_ble_eq_true rfl) dX4_setSluice_9 rfl rfl hk (Nat.zero_add _) (fun v9 M2 H locs hP S hk => ?_) (fun E q ce M9 H9 locs9 hX => hX.elim)
  obtain ⟨v3, rfl, h⟩ := hP
  refine W.eq (g2 := F0 m 12 ls [.int v3, .ref a0]) rfl ?_
  refine lv_if_ne (tgt := 19) hx hb dX4_setSluice_12 (by decide) (fun c9 => ?_) (fun c9 => ?_)
  · have h := h.1 c9
    refine lv_iconst (v := 0) hx hb dX4_setSluice_19 (by decide) ?_
    exact j20 _ _ _ _ _ _ _ _ _ _ _ hk S hl h
  · have h := h.2 c9
    refine lv_iconst (v := 1) hx hb dX4_setSluice_15 (by decide) ?_
    refine lv_goto (tgt := 20) hx hb dX4_setSluice_16 (by decide) ?_
    exact j20 _ _ _ _ _ _ _ _ _ _ _ hk S hl h
/-! X4_share: level 12 -/
def wb_X4_share_23 (G : mG) (P : Int32 → mM → Prop) (r : Nat) (M : mM) (s0 : Int32) : Prop :=
  P s0 M
def wp_X4_share (G : mG) (b : Nat) (P : Int32 → mM → Prop) (M : mM) (a0 : Nat) (x1 : Int32) : Prop :=
  isc M a0 3 ∧ (wp_X4_noWalker G 0 (fun v2 M1 => isc M1 a0 3 ∧ (wp_X4_fails G 0 (fun v4 M3 => (v4 = 0 → isc M3 a0 3 ∧ (wp_X4_shareOf G 0 (fun v6 M5 => wb_X4_share_23 G P b M5 v6) M3 a0 x1)) ∧ (¬ v4 = 0 → wb_X4_share_23 G P b M3 0)) M1 a0 v2 0 0)) M a0 x1)
set_option maxHeartbeats 4000000 in
set_option maxRecDepth 100000 in
theorem wk_X4_share {l : Launch} (hst0 : l.stackTraces = false) {G : mG} {b : Nat} {P : Int32 → mM → Prop} {M : mM} {a0 : Nat} {x1 : Int32} (h : wp_X4_share G b P M a0 x1) : mMet l yX4_share (ws_ yX4_share cX4_share 2 (Option.some Jvm.ClassFile.FieldType.int)) 12 b G [.ref a0, .int x1] M (mRi P) (fun _ _ _ => False) := by
  refine mm_met hst0 (by decide) (Nat.le_of_ble_eq_true rfl) ?_
  intro p e s m args below meth c ls C hr hnt hnm hl S
  have hl : lv_has ls 2 [(0, .ref a0), (1, .int x1)] := hl
  generalize mA M s.heap.size = A at C S ⊢
  have hx := C.hx
  have hb := C.hb
  have hk : 0 + b ≤ b := Nat.le_of_eq (Nat.zero_add b)
  have j23 : ∀ (k r : Nat) (M : mM) (H : Heap) (locs : List Loc) (ls : Array Slot) (s0 : Int32), k + r ≤ b → mW G A s M H locs → lv_has ls 2 [] → wb_X4_share_23 G P r M s0 → W p l e (mRm 12 b) s m args below meth c H locs k k (vx_MQ below (mQ G A (mRi P)) (mXC G A (fun _ _ _ => False)) args s b b A) (F0 m 23 ls [.int s0]) := by
    intro k r M H locs ls s0 hk S hl h
    unfold wb_X4_share_23 at h
    exact mm_iret C S hr (Nat.le_trans (Nat.le_add_right _ _) hk) dX4_share_23 h
  unfold wp_X4_share at h
  refine lv_aload_n hx hb dX4_share_0 rfl (lv_at hl 0 rfl) ?_
  refine lv_aload_n hx hb dX4_share_1 rfl (lv_at hl 0 rfl) ?_
  refine lv_iload_n hx hb dX4_share_2 rfl (lv_at hl 1 rfl) ?_
  obtain ⟨hI, h⟩ := h
  refine mm_V (As := [.int x1]) (rest := [.ref a0]) C S hl.1 (wk_X4_noWalker hst0 h) (T := TX4) rfl hI (lw_V q1989 q1991 qs40 q58 q1992) rfl pd_X4_noWalker ⟨Nat.le_of_ble_eq_true rfl, Nat.le_of_ble_eq_true rfl⟩ rfl rfl (Nat.le_of_ble_eq_true rfl) dX4_share_3 rfl rfl hk (Nat.zero_add _) (fun v9 M1 H locs hP S hk => ?_) (fun E q ce M9 H9 locs9 hX => hX.elim)
  obtain ⟨v2, rfl, h⟩ := hP
  refine W.eq (g2 := F0 m 6 ls [.int v2, .ref a0]) rfl ?_
  refine lv_iconst (v := 0) hx hb dX4_share_6 (by decide) ?_
  refine lv_iconst (v := 0) hx hb dX4_share_7 (by decide) ?_
  obtain ⟨hI, h⟩ := h
  refine mm_V (As := [.int v2, .int 0, .int 0]) (rest := []) C S hl.1 (wk_X4_fails hst0 h) (T := TX4) rfl hI (lw_V q1836 q1838 qs22 q58 q1839) rfl pd_X4_fails ⟨Nat.le_of_ble_eq_true rfl, Nat.le_of_ble_eq_true rfl⟩ rfl rfl (Nat.le_of_ble_eq_true rfl) dX4_share_8 rfl rfl hk (Nat.zero_add _) (fun v9 M3 H locs hP S hk => ?_) (fun E q ce M9 H9 locs9 hX => hX.elim)
  obtain ⟨v4, rfl, h⟩ := hP
  refine W.eq (g2 := F0 m 11 ls [.int v4]) rfl ?_
  refine lv_if_eq (tgt := 18) hx hb dX4_share_11 (by decide) (fun c9 => ?_) (fun c9 => ?_)
  · have h := h.1 c9
    refine lv_aload_n hx hb dX4_share_18 rfl (lv_at hl 0 rfl) ?_
    refine lv_iload_n hx hb dX4_share_19 rfl (lv_at hl 1 rfl) ?_
    obtain ⟨hI, h⟩ := h
    refine mm_V (As := [.int x1]) (rest := []) C S hl.1 (wk_X4_shareOf hst0 h) (T := TX4) rfl hI (lw_V q2005 q2007 qs42 q58 q2008) rfl pd_X4_shareOf ⟨Nat.le_of_ble_eq_true rfl, Nat.le_of_ble_eq_true rfl⟩ rfl rfl (Nat.le_of_ble_eq_true rfl) dX4_share_20 rfl rfl hk (Nat.zero_add _) (fun v9 M5 H locs hP S hk => ?_) (fun E q ce M9 H9 locs9 hX => hX.elim)
    obtain ⟨v6, rfl, h⟩ := hP
    refine W.eq (g2 := F0 m 23 ls [.int v6]) rfl ?_
    exact j23 _ _ _ _ _ _ _ hk S (lv_sub hl [] rfl) h
  · have h := h.2 c9
    refine lv_iconst (v := 0) hx hb dX4_share_14 (by decide) ?_
    refine lv_goto (tgt := 23) hx hb dX4_share_15 (by decide) ?_
    exact j23 _ _ _ _ _ _ _ hk S (lv_sub hl [] rfl) h
/-! X4_thrown: level 10 -/
def wp_X4_thrown (G : mG) (b : Nat) (P : Int32 → mM → Prop) (M : mM) (a0 : Nat) : Prop :=
  gfi M a0 3 0 fun v1 => P v1 M
set_option maxHeartbeats 4000000 in
set_option maxRecDepth 100000 in
theorem wk_X4_thrown {l : Launch} (hst0 : l.stackTraces = false) {G : mG} {b : Nat} {P : Int32 → mM → Prop} {M : mM} {a0 : Nat} (h : wp_X4_thrown G b P M a0) : mMet l yX4_thrown (ws_ yX4_thrown cX4_thrown 1 (Option.some Jvm.ClassFile.FieldType.int)) 10 b G [.ref a0] M (mRi P) (fun _ _ _ => False) := by
  refine mm_met hst0 (by decide) (Nat.le_of_ble_eq_true rfl) ?_
  intro p e s m args below meth c ls C hr hnt hnm hl S
  have hl : lv_has ls 1 [(0, .ref a0)] := hl
  generalize mA M s.heap.size = A at C S ⊢
  have hx := C.hx
  have hb := C.hb
  have hk : 0 + b ≤ b := Nat.le_of_eq (Nat.zero_add b)
  unfold wp_X4_thrown at h
  refine lv_aload_n hx hb dX4_thrown_0 rfl (lv_at hl 0 rfl) ?_
  refine mm_gfi C S (ci := 3) (k := 0) rfl in_X4 (by decide) q1670 (fun _ h9 => h9) dX4_thrown_1 h (fun v1 h => ?_)
  exact mm_iret C S hr (Nat.le_trans (Nat.le_add_right _ _) hk) dX4_thrown_4 h
/-! X4_total: level 12 -/
def wb_X4_total_61 (G : mG) (P : Int64 → mM → Prop) (K20 : Nat → mM → Nat → Int32 → Int32 → Int64 → Int32 → Prop) (r : Nat) (M : mM) (a0 : Nat) (x1 : Int32) (x2 : Int32) (y3 : Int64) (x5 : Int32) : Prop :=
  K20 r M a0 x1 x2 y3 (x5 + 1)
def wb_X4_total_59 (G : mG) (P : Int64 → mM → Prop) (K20 : Nat → mM → Nat → Int32 → Int32 → Int64 → Int32 → Prop) (r : Nat) (M : mM) (a0 : Nat) (x1 : Int32) (x2 : Int32) (x5 : Int32) (s0 : Int64) (s1 : Int64) : Prop :=
  wb_X4_total_61 G P K20 r M a0 x1 x2 (s0 + s1) x5
def wl_X4_total_20 (G : mG) (P : Int64 → mM → Prop) : Nat → Nat → mM → Nat → Int32 → Int32 → Int64 → Int32 → Prop
  | 0, _, _, _, _, _, _, _ => False
  | n + 1, r, M, a0, x1, x2, y3, x5 => (36 ≤ x5 → P y3 M) ∧ (¬ 36 ≤ x5 → gfi M a0 3 2 fun v5 => isc M a0 3 ∧ (wp_X4_find G 0 (fun v7 M6 => (v7 = 0 → wb_X4_total_61 G P (wl_X4_total_20 G P n) r M6 a0 x1 x2 y3 x5) ∧ (¬ v7 = 0 → (x2 = 0 → gfi M6 a0 3 47 fun v8 => wb_X4_total_59 G P (wl_X4_total_20 G P n) r M6 a0 x1 x2 x5 y3 v8.toInt64) ∧ (¬ x2 = 0 → gfi M6 a0 3 48 fun v9 => wb_X4_total_59 G P (wl_X4_total_20 G P n) r M6 a0 x1 x2 x5 y3 v9.toInt64))) M a0 x5 x1 v5))
def wp_X4_total (G : mG) (b : Nat) (P : Int64 → mM → Prop) (M : mM) (a0 : Nat) (x1 : Int32) (x2 : Int32) : Prop :=
  wp_X4_noKind G 0 (fun v2 M1 => isc M1 a0 3 ∧ (wp_X4_fails G 0 (fun v4 M3 => (v4 = 0 → ∃ n20, wl_X4_total_20 G P n20 b M3 a0 x1 x2 0 0) ∧ (¬ v4 = 0 → P 0 M3)) M1 a0 v2 0 0)) M x1
set_option maxHeartbeats 4000000 in
set_option maxRecDepth 100000 in
theorem wk_X4_total {l : Launch} (hst0 : l.stackTraces = false) {G : mG} {b : Nat} {P : Int64 → mM → Prop} {M : mM} {a0 : Nat} {x1 : Int32} {x2 : Int32} (h : wp_X4_total G b P M a0 x1 x2) : mMet l yX4_total (ws_ yX4_total cX4_total 6 (Option.some Jvm.ClassFile.FieldType.long)) 12 b G [.ref a0, .int x1, .int x2] M (mRl P) (fun _ _ _ => False) := by
  refine mm_met hst0 (by decide) (Nat.le_of_ble_eq_true rfl) ?_
  intro p e s m args below meth c ls C hr hnt hnm hl S
  have hl : lv_has ls 6 [(0, .ref a0), (1, .int x1), (2, .int x2)] := hl
  generalize mA M s.heap.size = A at C S ⊢
  have hx := C.hx
  have hb := C.hb
  have hk : 0 + b ≤ b := Nat.le_of_eq (Nat.zero_add b)
  have j20 : ∀ (nf : Nat) (k r : Nat) (M : mM) (H : Heap) (locs : List Loc) (ls : Array Slot) (a0 : Nat) (x1 : Int32) (x2 : Int32) (y3 : Int64) (x5 : Int32), k + r ≤ b → mW G A s M H locs → lv_has ls 6 [(0, .ref a0), (1, .int x1), (2, .int x2), (3, .long y3), (5, .int x5)] → wl_X4_total_20 G P nf r M a0 x1 x2 y3 x5 → W p l e (mRm 12 b) s m args below meth c H locs k k (vx_MQ below (mQ G A (mRl P)) (mXC G A (fun _ _ _ => False)) args s b b A) (F0 m 20 ls []) := by
    intro nf
    induction nf with
    | zero =>
      intro k r M H locs ls a0 x1 x2 y3 x5 hk S hl h
      rw [wl_X4_total_20] at h
      exact h.elim
    | succ n20 ih20 =>
      have j61 : ∀ (k r : Nat) (M : mM) (H : Heap) (locs : List Loc) (ls : Array Slot) (a0 : Nat) (x1 : Int32) (x2 : Int32) (y3 : Int64) (x5 : Int32), k + r ≤ b → mW G A s M H locs → lv_has ls 6 [(0, .ref a0), (1, .int x1), (2, .int x2), (3, .long y3), (5, .int x5)] → wb_X4_total_61 G P (wl_X4_total_20 G P n20) r M a0 x1 x2 y3 x5 → W p l e (mRm 12 b) s m args below meth c H locs k k (vx_MQ below (mQ G A (mRl P)) (mXC G A (fun _ _ _ => False)) args s b b A) (F0 m 61 ls []) := by
        intro k r M H locs ls a0 x1 x2 y3 x5 hk S hl h
        unfold wb_X4_total_61 at h
        refine lv_iinc (v := (x5 + 1)) (lv' := [(5, .int (x5 + 1)), (0, .ref a0), (1, .int x1), (2, .int x2), (3, .long y3)]) hx hb dX4_total_61 hl (k := 4) rfl rfl (by decide) rfl (fun ls hl => ?_)
        refine lv_goto (tgt := 20) hx hb dX4_total_64 (by decide) ?_
        exact ih20 _ _ _ _ _ _ _ _ _ _ _ hk S (lv_sub hl [1, 2, 3, 4, 0] rfl) h
      have j59 : ∀ (k r : Nat) (M : mM) (H : Heap) (locs : List Loc) (ls : Array Slot) (a0 : Nat) (x1 : Int32) (x2 : Int32) (x5 : Int32) (s0 : Int64) (s1 : Int64), k + r ≤ b → mW G A s M H locs → lv_has ls 6 [(0, .ref a0), (1, .int x1), (2, .int x2), (5, .int x5)] → wb_X4_total_59 G P (wl_X4_total_20 G P n20) r M a0 x1 x2 x5 s0 s1 → W p l e (mRm 12 b) s m args below meth c H locs k k (vx_MQ below (mQ G A (mRl P)) (mXC G A (fun _ _ _ => False)) args s b b A) (F0 m 59 ls [.long s1, .long s0]) := by
        intro k r M H locs ls a0 x1 x2 x5 s0 s1 hk S hl h
        unfold wb_X4_total_59 at h
        refine lv_ladd hx hb dX4_total_59 ?_
        refine lv_lstore_n (lv' := [(3, .long (s0 + s1)), (0, .ref a0), (1, .int x1), (2, .int x2), (5, .int x5)]) hx hb dX4_total_60 rfl hl (by decide) rfl (fun ls hl => ?_)
        exact j61 _ _ _ _ _ _ _ _ _ _ _ hk S (lv_sub hl [1, 2, 3, 0, 4] rfl) h
      intro k r M H locs ls a0 x1 x2 y3 x5 hk S hl h
      rw [wl_X4_total_20] at h
      refine lv_iload hx hb dX4_total_20 (lv_at hl 4 rfl) ?_
      refine lv_bipush (v := 36) hx hb dX4_total_22 (by decide) ?_
      refine lv_icmp_ge (tgt := 67) hx hb dX4_total_24 (by decide) (fun c9 => ?_) (fun c9 => ?_)
      · have h := h.1 c9
        refine lv_lload_n hx hb dX4_total_67 rfl (lv_at hl 3 rfl) ?_
        exact mm_lret C S hr (Nat.le_trans (Nat.le_add_right _ _) hk) dX4_total_68 h
      · have h := h.2 c9
        refine lv_aload_n hx hb dX4_total_27 rfl (lv_at hl 0 rfl) ?_
        refine lv_iload hx hb dX4_total_28 (lv_at hl 4 rfl) ?_
        refine lv_iload_n hx hb dX4_total_30 rfl (lv_at hl 1 rfl) ?_
        refine lv_aload_n hx hb dX4_total_31 rfl (lv_at hl 0 rfl) ?_
        refine mm_gfi C S (ci := 3) (k := 2) rfl in_X4 (by decide) q1672 (fun _ h9 => h9) dX4_total_32 h (fun v5 h => ?_)
        obtain ⟨hI, h⟩ := h
        refine mm_V (As := [.int x5, .int x1, .int v5]) (rest := []) C S hl.1 (wk_X4_find hst0 h) (T := TX4) rfl hI (lw_V q1973 q1975 qs39 q58 q1976) rfl pd_X4_find ⟨Nat.le_of_ble_eq_true rfl, Nat.le_of_ble_eq_true rfl⟩ rfl rfl (Nat.le_of_ble_eq_true rfl) dX4_total_35 rfl rfl hk (Nat.zero_add _) (fun v9 M6 H locs hP S hk => ?_) (fun E q ce M9 H9 locs9 hX => hX.elim)
        obtain ⟨v7, rfl, h⟩ := hP
        refine W.eq (g2 := F0 m 38 ls [.int v7]) rfl ?_
        refine lv_if_eq (tgt := 61) hx hb dX4_total_38 (by decide) (fun c9 => ?_) (fun c9 => ?_)
        · have h := h.1 c9
          exact j61 _ _ _ _ _ _ _ _ _ _ _ hk S hl h
        · have h := h.2 c9
          refine lv_lload_n hx hb dX4_total_41 rfl (lv_at hl 3 rfl) ?_
          refine lv_iload_n hx hb dX4_total_42 rfl (lv_at hl 2 rfl) ?_
          refine lv_if_eq (tgt := 54) hx hb dX4_total_43 (by decide) (fun c9 => ?_) (fun c9 => ?_)
          · have h := h.1 c9
            refine lv_aload_n hx hb dX4_total_54 rfl (lv_at hl 0 rfl) ?_
            refine mm_gfi C S (ci := 3) (k := 47) rfl in_X4 (by decide) q1717 (fun _ h9 => h9) dX4_total_55 h (fun v8 h => ?_)
            refine lv_i2l hx hb dX4_total_58 rfl ?_
            exact j59 _ _ _ _ _ _ _ _ _ _ _ _ hk S (lv_sub hl [0, 1, 2, 4] rfl) h
          · have h := h.2 c9
            refine lv_aload_n hx hb dX4_total_46 rfl (lv_at hl 0 rfl) ?_
            refine mm_gfi C S (ci := 3) (k := 48) rfl in_X4 (by decide) q1718 (fun _ h9 => h9) dX4_total_47 h (fun v9 h => ?_)
            refine lv_i2l hx hb dX4_total_50 rfl ?_
            refine lv_goto (tgt := 59) hx hb dX4_total_51 (by decide) ?_
            exact j59 _ _ _ _ _ _ _ _ _ _ _ _ hk S (lv_sub hl [0, 1, 2, 4] rfl) h
  unfold wp_X4_total at h
  refine lv_aload_n hx hb dX4_total_0 rfl (lv_at hl 0 rfl) ?_
  refine lv_iload_n hx hb dX4_total_1 rfl (lv_at hl 1 rfl) ?_
  refine mm_S (As := [.int x1]) (rest := [.ref a0]) C S hl.1 (wk_X4_noKind hst0 h) (lw_S q1856 q1857 q58 q1858) pd_X4_noKind ⟨Nat.le_of_ble_eq_true rfl, Nat.le_of_ble_eq_true rfl⟩ rfl rfl (Nat.le_of_ble_eq_true rfl) dX4_total_2 rfl rfl hk (Nat.zero_add _) (fun v9 M1 H locs hP S hk => ?_) (fun E q ce M9 H9 locs9 hX => hX.elim)
  obtain ⟨v2, rfl, h⟩ := hP
  refine W.eq (g2 := F0 m 5 ls [.int v2, .ref a0]) rfl ?_
  refine lv_iconst (v := 0) hx hb dX4_total_5 (by decide) ?_
  refine lv_iconst (v := 0) hx hb dX4_total_6 (by decide) ?_
  obtain ⟨hI, h⟩ := h
  refine mm_V (As := [.int v2, .int 0, .int 0]) (rest := []) C S hl.1 (wk_X4_fails hst0 h) (T := TX4) rfl hI (lw_V q1836 q1838 qs22 q58 q1839) rfl pd_X4_fails ⟨Nat.le_of_ble_eq_true rfl, Nat.le_of_ble_eq_true rfl⟩ rfl rfl (Nat.le_of_ble_eq_true rfl) dX4_total_7 rfl rfl hk (Nat.zero_add _) (fun v9 M3 H locs hP S hk => ?_) (fun E q ce M9 H9 locs9 hX => hX.elim)
  obtain ⟨v4, rfl, h⟩ := hP
  refine W.eq (g2 := F0 m 10 ls [.int v4]) rfl ?_
  refine lv_if_eq (tgt := 15) hx hb dX4_total_10 (by decide) (fun c9 => ?_) (fun c9 => ?_)
  · have h := h.1 c9
    refine lv_lconst (v := 0) hx hb dX4_total_15 (by decide) ?_
    refine lv_lstore_n (lv' := [(3, .long 0), (0, .ref a0), (1, .int x1), (2, .int x2)]) hx hb dX4_total_16 rfl hl (by decide) rfl (fun ls hl => ?_)
    refine lv_iconst (v := 0) hx hb dX4_total_17 (by decide) ?_
    refine lv_istore (lv' := [(5, .int 0), (3, .long 0), (0, .ref a0), (1, .int x1), (2, .int x2)]) hx hb dX4_total_18 hl (by decide) rfl (fun ls hl => ?_)
    obtain ⟨nf, h⟩ := h
    exact j20 nf _ _ _ _ _ _ _ _ _ _ _ hk S (lv_sub hl [2, 3, 4, 1, 0] rfl) h
  · have h := h.2 c9
    refine lv_lconst (v := 0) hx hb dX4_total_13 (by decide) ?_
    exact mm_lret C S hr (Nat.le_trans (Nat.le_add_right _ _) hk) dX4_total_14 h
/-! X4_type: level 11 -/
def wb_X4_type_107 (G : mG) (P : Int32 → mM → Prop) (K64 : Nat → mM → Nat → Int64 → Int32 → Prop) (r : Nat) (M : mM) (a0 : Nat) (y1 : Int64) (x4 : Int32) : Prop :=
  K64 r M a0 y1 (x4 + (-8))
def wl_X4_type_64 (G : mG) (P : Int32 → mM → Prop) : Nat → Nat → mM → Nat → Int64 → Int32 → Prop
  | 0, _, _, _, _, _ => False
  | n + 1, r, M, a0, y1, x4 => (x4 < 0 → gfi M a0 3 18 fun v5 => P v5 M) ∧ (¬ x4 < 0 → ∀ g6 : Int64, g6 = ((y1.toUInt64 >>> (x4.toInt64.toUInt64 &&& Int64.toUInt64 63)).toInt64) → ((lg_cmp (g6 &&& 255) 0) = 0 → wb_X4_type_107 G P (wl_X4_type_64 G P n) r M a0 y1 x4) ∧ (¬ (lg_cmp (g6 &&& 255) 0) = 0 → gfa M a0 3 22 fun u7 => gfi M a0 3 18 fun v8 => pfi M a0 3 18 (v8 + 1) fun M9 => ∀ g10 : Int64, g10 = ((y1.toUInt64 >>> (x4.toInt64.toUInt64 &&& Int64.toUInt64 63)).toInt64) → sti M9 0 u7 v8 ((g10 &&& 255).toInt32) fun M11 => wb_X4_type_107 G P (wl_X4_type_64 G P n) r M11 a0 y1 x4))
def wb_X4_type_50 (G : mG) (P : Int32 → mM → Prop) (r : Nat) (M : mM) (a0 : Nat) (y1 : Int64) (s0 : Nat) (s1 : Int32) : Prop :=
  isc M s0 3 ∧ (wp_X4_fails G 0 (fun v4 M3 => (v4 = 0 → ∃ n64, wl_X4_type_64 G P n64 r M3 a0 y1 56) ∧ (¬ v4 = 0 → P 0 M3)) M s0 s1 0 0)
def wb_X4_type_27 (G : mG) (P : Int32 → mM → Prop) (K6 : Nat → mM → Nat → Int64 → Int32 → Int32 → Prop) (r : Nat) (M : mM) (a0 : Nat) (y1 : Int64) (x3 : Int32) (x4 : Int32) : Prop :=
  K6 r M a0 y1 x3 (x4 + (-8))
def wl_X4_type_6 (G : mG) (P : Int32 → mM → Prop) : Nat → Nat → mM → Nat → Int64 → Int32 → Int32 → Prop
  | 0, _, _, _, _, _, _ => False
  | n + 1, r, M, a0, y1, x3, x4 => (x4 < 0 → gfi M a0 3 18 fun v1 => ((v1 + x3) ≤ 60 → wb_X4_type_50 G P r M a0 y1 a0 0) ∧ (¬ (v1 + x3) ≤ 60 → wb_X4_type_50 G P r M a0 y1 a0 1)) ∧ (¬ x4 < 0 → ∀ g2 : Int64, g2 = ((y1.toUInt64 >>> (x4.toInt64.toUInt64 &&& Int64.toUInt64 63)).toInt64) → ((lg_cmp (g2 &&& 255) 0) = 0 → wb_X4_type_27 G P (wl_X4_type_6 G P n) r M a0 y1 x3 x4) ∧ (¬ (lg_cmp (g2 &&& 255) 0) = 0 → wb_X4_type_27 G P (wl_X4_type_6 G P n) r M a0 y1 (x3 + 1) x4))
def wp_X4_type (G : mG) (b : Nat) (P : Int32 → mM → Prop) (M : mM) (a0 : Nat) (y1 : Int64) : Prop :=
  ∃ n6, wl_X4_type_6 G P n6 b M a0 y1 0 56
set_option maxHeartbeats 4000000 in
set_option maxRecDepth 100000 in
theorem wk_X4_type {l : Launch} (hst0 : l.stackTraces = false) {G : mG} {b : Nat} {P : Int32 → mM → Prop} {M : mM} {a0 : Nat} {y1 : Int64} (h : wp_X4_type G b P M a0 y1) : mMet l yX4_type (ws_ yX4_type cX4_type 5 (Option.some Jvm.ClassFile.FieldType.int)) 11 b G [.ref a0, .long y1] M (mRi P) (fun _ _ _ => False) := by
  refine mm_met hst0 (by decide) (Nat.le_of_ble_eq_true rfl) ?_
  intro p e s m args below meth c ls C hr hnt hnm hl S
  have hl : lv_has ls 5 [(0, .ref a0), (1, .long y1)] := hl
  generalize mA M s.heap.size = A at C S ⊢
  have hx := C.hx
  have hb := C.hb
  have hk : 0 + b ≤ b := Nat.le_of_eq (Nat.zero_add b)
  have j64 : ∀ (nf : Nat) (k r : Nat) (M : mM) (H : Heap) (locs : List Loc) (ls : Array Slot) (a0 : Nat) (y1 : Int64) (x4 : Int32), k + r ≤ b → mW G A s M H locs → lv_has ls 5 [(0, .ref a0), (1, .long y1), (4, .int x4)] → wl_X4_type_64 G P nf r M a0 y1 x4 → W p l e (mRm 11 b) s m args below meth c H locs k k (vx_MQ below (mQ G A (mRi P)) (mXC G A (fun _ _ _ => False)) args s b b A) (F0 m 64 ls []) := by
    intro nf
    induction nf with
    | zero =>
      intro k r M H locs ls a0 y1 x4 hk S hl h
      rw [wl_X4_type_64] at h
      exact h.elim
    | succ n64 ih64 =>
      have j107 : ∀ (k r : Nat) (M : mM) (H : Heap) (locs : List Loc) (ls : Array Slot) (a0 : Nat) (y1 : Int64) (x4 : Int32), k + r ≤ b → mW G A s M H locs → lv_has ls 5 [(0, .ref a0), (1, .long y1), (4, .int x4)] → wb_X4_type_107 G P (wl_X4_type_64 G P n64) r M a0 y1 x4 → W p l e (mRm 11 b) s m args below meth c H locs k k (vx_MQ below (mQ G A (mRi P)) (mXC G A (fun _ _ _ => False)) args s b b A) (F0 m 107 ls []) := by
        intro k r M H locs ls a0 y1 x4 hk S hl h
        unfold wb_X4_type_107 at h
        refine lv_iinc (v := (x4 + (-8))) (lv' := [(4, .int (x4 + (-8))), (0, .ref a0), (1, .long y1)]) hx hb dX4_type_107 hl (k := 2) rfl rfl (by decide) rfl (fun ls hl => ?_)
        refine lv_goto (tgt := 64) hx hb dX4_type_110 (by decide) ?_
        exact ih64 _ _ _ _ _ _ _ _ _ hk S (lv_sub hl [1, 2, 0] rfl) h
      intro k r M H locs ls a0 y1 x4 hk S hl h
      rw [wl_X4_type_64] at h
      refine lv_iload hx hb dX4_type_64 (lv_at hl 2 rfl) ?_
      refine lv_if_lt (tgt := 113) hx hb dX4_type_66 (by decide) (fun c9 => ?_) (fun c9 => ?_)
      · have h := h.1 c9
        refine lv_aload_n hx hb dX4_type_113 rfl (lv_at hl 0 rfl) ?_
        refine mm_gfi C S (ci := 3) (k := 18) rfl in_X4 (by decide) q1688 (fun _ h9 => h9) dX4_type_114 h (fun v5 h => ?_)
        exact mm_iret C S hr (Nat.le_trans (Nat.le_add_right _ _) hk) dX4_type_117 h
      · have h := h.2 c9
        refine lv_lload_n hx hb dX4_type_69 rfl (lv_at hl 1 rfl) ?_
        refine lv_iload hx hb dX4_type_70 (lv_at hl 2 rfl) ?_
        refine lv_lushr hx hb dX4_type_72 rfl ?_
        refine lv_topl (fun g6 eg6 => ?_)
        have h := h g6 eg6
        refine lv_ldc2 hx hb C.hown (C.ts _ q1889) dX4_type_73 ?_
        refine lv_land hx hb dX4_type_76 ?_
        refine lv_lconst (v := 0) hx hb dX4_type_77 (by decide) ?_
        refine W.lcmp hx hb dX4_type_78 ?_
        refine lv_if_eq (tgt := 107) hx hb dX4_type_79 (by decide) (fun c9 => ?_) (fun c9 => ?_)
        · have h := h.1 c9
          exact j107 _ _ _ _ _ _ _ _ _ hk S hl h
        · have h := h.2 c9
          refine lv_aload_n hx hb dX4_type_82 rfl (lv_at hl 0 rfl) ?_
          refine mm_gfa C S (ci := 3) (k := 22) rfl in_X4 (by decide) q1692 (fun _ h9 => h9) dX4_type_83 h (fun u7 h => ?_)
          refine lv_aload_n hx hb dX4_type_86 rfl (lv_at hl 0 rfl) ?_
          refine lv_dup hx hb dX4_type_87 rfl ?_
          refine mm_gfi C S (ci := 3) (k := 18) rfl in_X4 (by decide) q1688 (fun _ h9 => h9) dX4_type_88 h (fun v8 h => ?_)
          refine lv_dup_x1 hx hb dX4_type_91 rfl rfl ?_
          refine lv_iconst (v := 1) hx hb dX4_type_92 (by decide) ?_
          refine lv_iadd hx hb dX4_type_93 ?_
          refine mm_pfi C S (ci := 3) (k := 18) rfl in_X4 tyX4_ok nmX4 (by decide) q1688 (fun _ h9 => h9) rfl dX4_type_94 rfl h (fun M9 H locs h S => ?_)
          refine lv_lload_n hx hb dX4_type_97 rfl (lv_at hl 1 rfl) ?_
          refine lv_iload hx hb dX4_type_98 (lv_at hl 2 rfl) ?_
          refine lv_lushr hx hb dX4_type_100 rfl ?_
          refine lv_topl (fun g10 eg10 => ?_)
          have h := h g10 eg10
          refine lv_ldc2 hx hb C.hown (C.ts _ q1889) dX4_type_101 ?_
          refine lv_land hx hb dX4_type_104 ?_
          refine lv_l2i hx hb dX4_type_105 rfl ?_
          refine mm_iast C S h dX4_type_106 (fun M11 H locs h S => ?_)
          exact j107 _ _ _ _ _ _ _ _ _ hk S hl h
  have j50 : ∀ (k r : Nat) (M : mM) (H : Heap) (locs : List Loc) (ls : Array Slot) (a0 : Nat) (y1 : Int64) (s0 : Nat) (s1 : Int32), k + r ≤ b → mW G A s M H locs → lv_has ls 5 [(0, .ref a0), (1, .long y1)] → wb_X4_type_50 G P r M a0 y1 s0 s1 → W p l e (mRm 11 b) s m args below meth c H locs k k (vx_MQ below (mQ G A (mRi P)) (mXC G A (fun _ _ _ => False)) args s b b A) (F0 m 50 ls [.int s1, .ref s0]) := by
    intro k r M H locs ls a0 y1 s0 s1 hk S hl h
    unfold wb_X4_type_50 at h
    refine lv_iconst (v := 0) hx hb dX4_type_50 (by decide) ?_
    refine lv_iconst (v := 0) hx hb dX4_type_51 (by decide) ?_
    obtain ⟨hI, h⟩ := h
    refine mm_V (As := [.int s1, .int 0, .int 0]) (rest := []) C S hl.1 (wk_X4_fails hst0 h) (T := TX4) rfl hI (lw_V q1836 q1838 qs22 q58 q1839) rfl pd_X4_fails ⟨Nat.le_of_ble_eq_true rfl, Nat.le_of_ble_eq_true rfl⟩ rfl rfl (Nat.le_of_ble_eq_true rfl) dX4_type_52 rfl rfl hk (Nat.zero_add _) (fun v9 M3 H locs hP S hk => ?_) (fun E q ce M9 H9 locs9 hX => hX.elim)
    obtain ⟨v4, rfl, h⟩ := hP
    refine W.eq (g2 := F0 m 55 ls [.int v4]) rfl ?_
    refine lv_if_eq (tgt := 60) hx hb dX4_type_55 (by decide) (fun c9 => ?_) (fun c9 => ?_)
    · have h := h.1 c9
      refine lv_bipush (v := 56) hx hb dX4_type_60 (by decide) ?_
      refine lv_istore (lv' := [(4, .int 56), (0, .ref a0), (1, .long y1)]) hx hb dX4_type_62 hl (by decide) rfl (fun ls hl => ?_)
      obtain ⟨nf, h⟩ := h
      exact j64 nf _ _ _ _ _ _ _ _ _ hk S (lv_sub hl [1, 2, 0] rfl) h
    · have h := h.2 c9
      refine lv_iconst (v := 0) hx hb dX4_type_58 (by decide) ?_
      exact mm_iret C S hr (Nat.le_trans (Nat.le_add_right _ _) hk) dX4_type_59 h
  have j6 : ∀ (nf : Nat) (k r : Nat) (M : mM) (H : Heap) (locs : List Loc) (ls : Array Slot) (a0 : Nat) (y1 : Int64) (x3 : Int32) (x4 : Int32), k + r ≤ b → mW G A s M H locs → lv_has ls 5 [(0, .ref a0), (1, .long y1), (3, .int x3), (4, .int x4)] → wl_X4_type_6 G P nf r M a0 y1 x3 x4 → W p l e (mRm 11 b) s m args below meth c H locs k k (vx_MQ below (mQ G A (mRi P)) (mXC G A (fun _ _ _ => False)) args s b b A) (F0 m 6 ls []) := by
    intro nf
    induction nf with
    | zero =>
      intro k r M H locs ls a0 y1 x3 x4 hk S hl h
      rw [wl_X4_type_6] at h
      exact h.elim
    | succ n6 ih6 =>
      have j27 : ∀ (k r : Nat) (M : mM) (H : Heap) (locs : List Loc) (ls : Array Slot) (a0 : Nat) (y1 : Int64) (x3 : Int32) (x4 : Int32), k + r ≤ b → mW G A s M H locs → lv_has ls 5 [(0, .ref a0), (1, .long y1), (3, .int x3), (4, .int x4)] → wb_X4_type_27 G P (wl_X4_type_6 G P n6) r M a0 y1 x3 x4 → W p l e (mRm 11 b) s m args below meth c H locs k k (vx_MQ below (mQ G A (mRi P)) (mXC G A (fun _ _ _ => False)) args s b b A) (F0 m 27 ls []) := by
        intro k r M H locs ls a0 y1 x3 x4 hk S hl h
        unfold wb_X4_type_27 at h
        refine lv_iinc (v := (x4 + (-8))) (lv' := [(4, .int (x4 + (-8))), (0, .ref a0), (1, .long y1), (3, .int x3)]) hx hb dX4_type_27 hl (k := 3) rfl rfl (by decide) rfl (fun ls hl => ?_)
        refine lv_goto (tgt := 6) hx hb dX4_type_30 (by decide) ?_
        exact ih6 _ _ _ _ _ _ _ _ _ _ hk S (lv_sub hl [1, 2, 3, 0] rfl) h
      intro k r M H locs ls a0 y1 x3 x4 hk S hl h
      rw [wl_X4_type_6] at h
      refine lv_iload hx hb dX4_type_6 (lv_at hl 3 rfl) ?_
      refine lv_if_lt (tgt := 33) hx hb dX4_type_8 (by decide) (fun c9 => ?_) (fun c9 => ?_)
      · have h := h.1 c9
        refine lv_aload_n hx hb dX4_type_33 rfl (lv_at hl 0 rfl) ?_
        refine lv_aload_n hx hb dX4_type_34 rfl (lv_at hl 0 rfl) ?_
        refine mm_gfi C S (ci := 3) (k := 18) rfl in_X4 (by decide) q1688 (fun _ h9 => h9) dX4_type_35 h (fun v1 h => ?_)
        refine lv_iload_n hx hb dX4_type_38 rfl (lv_at hl 2 rfl) ?_
        refine lv_iadd hx hb dX4_type_39 ?_
        refine lv_bipush (v := 60) hx hb dX4_type_40 (by decide) ?_
        refine lv_icmp_le (tgt := 49) hx hb dX4_type_42 (by decide) (fun c9 => ?_) (fun c9 => ?_)
        · have h := h.1 c9
          refine lv_iconst (v := 0) hx hb dX4_type_49 (by decide) ?_
          exact j50 _ _ _ _ _ _ _ _ _ _ hk S (lv_sub hl [0, 1] rfl) h
        · have h := h.2 c9
          refine lv_iconst (v := 1) hx hb dX4_type_45 (by decide) ?_
          refine lv_goto (tgt := 50) hx hb dX4_type_46 (by decide) ?_
          exact j50 _ _ _ _ _ _ _ _ _ _ hk S (lv_sub hl [0, 1] rfl) h
      · have h := h.2 c9
        refine lv_lload_n hx hb dX4_type_11 rfl (lv_at hl 1 rfl) ?_
        refine lv_iload hx hb dX4_type_12 (lv_at hl 3 rfl) ?_
        refine lv_lushr hx hb dX4_type_14 rfl ?_
        refine lv_topl (fun g2 eg2 => ?_)
        have h := h g2 eg2
        refine lv_ldc2 hx hb C.hown (C.ts _ q1889) dX4_type_15 ?_
        refine lv_land hx hb dX4_type_18 ?_
        refine lv_lconst (v := 0) hx hb dX4_type_19 (by decide) ?_
        refine W.lcmp hx hb dX4_type_20 ?_
        refine lv_if_eq (tgt := 27) hx hb dX4_type_21 (by decide) (fun c9 => ?_) (fun c9 => ?_)
        · have h := h.1 c9
          exact j27 _ _ _ _ _ _ _ _ _ _ hk S hl h
        · have h := h.2 c9
          refine lv_iinc (v := (x3 + 1)) (lv' := [(3, .int (x3 + 1)), (0, .ref a0), (1, .long y1), (4, .int x4)]) hx hb dX4_type_24 hl (k := 2) rfl rfl (by decide) rfl (fun ls hl => ?_)
          exact j27 _ _ _ _ _ _ _ _ _ _ hk S (lv_sub hl [1, 2, 0, 3] rfl) h
  unfold wp_X4_type at h
  refine lv_iconst (v := 0) hx hb dX4_type_0 (by decide) ?_
  refine lv_istore_n (lv' := [(3, .int 0), (0, .ref a0), (1, .long y1)]) hx hb dX4_type_1 rfl hl (by decide) rfl (fun ls hl => ?_)
  refine lv_bipush (v := 56) hx hb dX4_type_2 (by decide) ?_
  refine lv_istore (lv' := [(4, .int 56), (3, .int 0), (0, .ref a0), (1, .long y1)]) hx hb dX4_type_4 hl (by decide) rfl (fun ls hl => ?_)
  obtain ⟨nf, h⟩ := h
  exact j6 nf _ _ _ _ _ _ _ _ _ _ hk S (lv_sub hl [2, 3, 1, 0] rfl) h
