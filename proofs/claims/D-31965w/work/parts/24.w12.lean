/-! X4_cellAt: level 12 -/
def wb_X4_cellAt_132 (G : mG) (P : Int32 → mM → Prop) (r : Nat) (M : mM) (s0 : Int32) : Prop :=
  P s0 M
def wb_X4_cellAt_56 (G : mG) (P : Int32 → mM → Prop) (K33 : Nat → mM → Nat → Int32 → Int32 → Int32 → Int32 → Prop) (r : Nat) (M : mM) (a0 : Nat) (x1 : Int32) (x2 : Int32) (x3 : Int32) (x4 : Int32) : Prop :=
  K33 r M a0 x1 x2 x3 (x4 + 1)
def wl_X4_cellAt_33 (G : mG) (P : Int32 → mM → Prop) : Nat → Nat → mM → Nat → Int32 → Int32 → Int32 → Int32 → Prop
  | 0, _, _, _, _, _, _, _ => False
  | n + 1, r, M, a0, x1, x2, x3, x4 => (4 ≤ x4 → (¬ x2 = 0 → (¬ x2 = 1 → (¬ x2 = 2 → (¬ x2 = 3 → wb_X4_cellAt_132 G P r M x3) ∧ (x2 = 3 → gfa M a0 3 5 fun u7 => ldi M 0 u7 x1 fun v8 => (¬ v8 = (-1) → isc M a0 3 ∧ (wp_X4_depth G 0 (fun v10 M9 => wb_X4_cellAt_132 G P r M9 v10) M a0 x1)) ∧ (v8 = (-1) → wb_X4_cellAt_132 G P r M (-100)))) ∧ (x2 = 2 → gfa M a0 3 5 fun u11 => ldi M 0 u11 x1 fun v12 => wb_X4_cellAt_132 G P r M v12)) ∧ (x2 = 1 → gfa M a0 3 4 fun u13 => ldi M 0 u13 x1 fun v14 => wb_X4_cellAt_132 G P r M v14)) ∧ (x2 = 0 → gfa M a0 3 3 fun u15 => ldi M 0 u15 x1 fun v16 => wb_X4_cellAt_132 G P r M v16)) ∧ (¬ 4 ≤ x4 → isc M a0 3 ∧ (wp_X4_suits G 0 (fun v18 M17 => (v18 = 0 → wb_X4_cellAt_56 G P (wl_X4_cellAt_33 G P n) r M17 a0 x1 x2 x3 x4) ∧ (¬ v18 = 0 → ∀ g19 : Int32, g19 = (x3 ||| (1 <<< (x4 &&& 31))) → wb_X4_cellAt_56 G P (wl_X4_cellAt_33 G P n) r M17 a0 x1 x2 g19 x4)) M a0 x1 x4))
def wb_X4_cellAt_19 (G : mG) (P : Int32 → mM → Prop) (r : Nat) (M : mM) (a0 : Nat) (x1 : Int32) (x2 : Int32) (s0 : Nat) (s1 : Int32) (s2 : Int32) : Prop :=
  isc M s0 3 ∧ (wp_X4_fails G 0 (fun v6 M5 => (v6 = 0 → ∃ n33, wl_X4_cellAt_33 G P n33 r M5 a0 x1 x2 0 0) ∧ (¬ v6 = 0 → P 0 M5)) M s0 s1 s2 0)
def wp_X4_cellAt (G : mG) (b : Nat) (P : Int32 → mM → Prop) (M : mM) (a0 : Nat) (x1 : Int32) (x2 : Int32) : Prop :=
  wp_X4_noCell G 0 (fun v2 M1 => wp_X4_isIn G 0 (fun v4 M3 => (¬ v4 = 0 → wb_X4_cellAt_19 G P b M3 a0 x1 x2 a0 v2 0) ∧ (v4 = 0 → wb_X4_cellAt_19 G P b M3 a0 x1 x2 a0 v2 1)) M1 x2 0 4) M x1
set_option maxHeartbeats 4000000 in
set_option maxRecDepth 100000 in
theorem wk_X4_cellAt {l : Launch} (hst0 : l.stackTraces = false) {G : mG} {b : Nat} {P : Int32 → mM → Prop} {M : mM} {a0 : Nat} {x1 : Int32} {x2 : Int32} (h : wp_X4_cellAt G b P M a0 x1 x2) : mMet l yX4_cellAt (ws_ yX4_cellAt cX4_cellAt 5 (Option.some Jvm.ClassFile.FieldType.int)) 12 b G [.ref a0, .int x1, .int x2] M (mRi P) (fun _ _ _ => False) := by
  refine mm_met hst0 (by decide) (Nat.le_of_ble_eq_true rfl) ?_
  intro p e s m args below meth c ls C hr hnt hnm hl S
  have hl : lv_has ls 5 [(0, .ref a0), (1, .int x1), (2, .int x2)] := hl
  generalize mA M s.heap.size = A at C S ⊢
  have hx := C.hx
  have hb := C.hb
  have hk : 0 + b ≤ b := Nat.le_of_eq (Nat.zero_add b)
  have j132 : ∀ (k r : Nat) (M : mM) (H : Heap) (locs : List Loc) (ls : Array Slot) (s0 : Int32), k + r ≤ b → mW G A s M H locs → lv_has ls 5 [] → wb_X4_cellAt_132 G P r M s0 → W p l e (mRm 12 b) s m args below meth c H locs k k (vx_MQ below (mQ G A (mRi P)) (mXC G A (fun _ _ _ => False)) args s b b A) (F0 m 132 ls [.int s0]) := by
    intro k r M H locs ls s0 hk S hl h
    unfold wb_X4_cellAt_132 at h
    exact mm_iret C S hr (Nat.le_trans (Nat.le_add_right _ _) hk) dX4_cellAt_132 h
  have j33 : ∀ (nf : Nat) (k r : Nat) (M : mM) (H : Heap) (locs : List Loc) (ls : Array Slot) (a0 : Nat) (x1 : Int32) (x2 : Int32) (x3 : Int32) (x4 : Int32), k + r ≤ b → mW G A s M H locs → lv_has ls 5 [(0, .ref a0), (1, .int x1), (2, .int x2), (3, .int x3), (4, .int x4)] → wl_X4_cellAt_33 G P nf r M a0 x1 x2 x3 x4 → W p l e (mRm 12 b) s m args below meth c H locs k k (vx_MQ below (mQ G A (mRi P)) (mXC G A (fun _ _ _ => False)) args s b b A) (F0 m 33 ls []) := by
    intro nf
    induction nf with
    | zero =>
      intro k r M H locs ls a0 x1 x2 x3 x4 hk S hl h
      rw [wl_X4_cellAt_33] at h
      exact h.elim
    | succ n33 ih33 =>
      have j56 : ∀ (k r : Nat) (M : mM) (H : Heap) (locs : List Loc) (ls : Array Slot) (a0 : Nat) (x1 : Int32) (x2 : Int32) (x3 : Int32) (x4 : Int32), k + r ≤ b → mW G A s M H locs → lv_has ls 5 [(0, .ref a0), (1, .int x1), (2, .int x2), (3, .int x3), (4, .int x4)] → wb_X4_cellAt_56 G P (wl_X4_cellAt_33 G P n33) r M a0 x1 x2 x3 x4 → W p l e (mRm 12 b) s m args below meth c H locs k k (vx_MQ below (mQ G A (mRi P)) (mXC G A (fun _ _ _ => False)) args s b b A) (F0 m 56 ls []) := by
        intro k r M H locs ls a0 x1 x2 x3 x4 hk S hl h
        unfold wb_X4_cellAt_56 at h
        refine lv_iinc (v := (x4 + 1)) (lv' := [(4, .int (x4 + 1)), (0, .ref a0), (1, .int x1), (2, .int x2), (3, .int x3)]) hx hb dX4_cellAt_56 hl (k := 4) rfl rfl (by decide) rfl (fun ls hl => ?_)
        refine lv_goto (tgt := 33) hx hb dX4_cellAt_59 (by decide) ?_
        exact ih33 _ _ _ _ _ _ _ _ _ _ _ hk S (lv_sub hl [1, 2, 3, 4, 0] rfl) h
      intro k r M H locs ls a0 x1 x2 x3 x4 hk S hl h
      rw [wl_X4_cellAt_33] at h
      refine lv_iload hx hb dX4_cellAt_33 (lv_at hl 4 rfl) ?_
      refine lv_iconst (v := 4) hx hb dX4_cellAt_35 (by decide) ?_
      refine lv_icmp_ge (tgt := 62) hx hb dX4_cellAt_36 (by decide) (fun c9 => ?_) (fun c9 => ?_)
      · have h := h.1 c9
        refine lv_iload_n hx hb dX4_cellAt_62 rfl (lv_at hl 2 rfl) ?_
        refine lv_if_ne (tgt := 75) hx hb dX4_cellAt_63 (by decide) (fun c9 => ?_) (fun c9 => ?_)
        · have h := h.1 c9
          refine lv_iload_n hx hb dX4_cellAt_75 rfl (lv_at hl 2 rfl) ?_
          refine lv_iconst (v := 1) hx hb dX4_cellAt_76 (by decide) ?_
          refine lv_icmp_ne (tgt := 89) hx hb dX4_cellAt_77 (by decide) (fun c9 => ?_) (fun c9 => ?_)
          · have h := h.1 c9
            refine lv_iload_n hx hb dX4_cellAt_89 rfl (lv_at hl 2 rfl) ?_
            refine lv_iconst (v := 2) hx hb dX4_cellAt_90 (by decide) ?_
            refine lv_icmp_ne (tgt := 103) hx hb dX4_cellAt_91 (by decide) (fun c9 => ?_) (fun c9 => ?_)
            · have h := h.1 c9
              refine lv_iload_n hx hb dX4_cellAt_103 rfl (lv_at hl 2 rfl) ?_
              refine lv_iconst (v := 3) hx hb dX4_cellAt_104 (by decide) ?_
              refine lv_icmp_ne (tgt := 131) hx hb dX4_cellAt_105 (by decide) (fun c9 => ?_) (fun c9 => ?_)
              · have h := h.1 c9
                refine lv_iload_n hx hb dX4_cellAt_131 rfl (lv_at hl 3 rfl) ?_
                exact j132 _ _ _ _ _ _ _ hk S (lv_sub hl [] rfl) h
              · have h := h.2 c9
                refine lv_aload_n hx hb dX4_cellAt_108 rfl (lv_at hl 0 rfl) ?_
                refine mm_gfa C S (ci := 3) (k := 5) rfl in_X4 (by decide) q1675 (fun _ h9 => h9) dX4_cellAt_109 h (fun u7 h => ?_)
                refine lv_iload_n hx hb dX4_cellAt_112 rfl (lv_at hl 1 rfl) ?_
                refine mm_iald C S h dX4_cellAt_113 (fun v8 h => ?_)
                refine lv_iconst (v := (-1)) hx hb dX4_cellAt_114 (by decide) ?_
                refine lv_icmp_ne (tgt := 123) hx hb dX4_cellAt_115 (by decide) (fun c9 => ?_) (fun c9 => ?_)
                · have h := h.1 c9
                  refine lv_aload_n hx hb dX4_cellAt_123 rfl (lv_at hl 0 rfl) ?_
                  refine lv_iload_n hx hb dX4_cellAt_124 rfl (lv_at hl 1 rfl) ?_
                  obtain ⟨hI, h⟩ := h
                  refine mm_V (As := [.int x1]) (rest := []) C S hl.1 (wk_X4_depth hst0 h) (T := TX4) rfl hI (lw_V q1848 q1850 qs24 q58 q1851) rfl pd_X4_depth ⟨Nat.le_of_ble_eq_true rfl, Nat.le_of_ble_eq_true rfl⟩ rfl rfl (Nat.le_of_ble_eq_true rfl) dX4_cellAt_125 rfl rfl hk (Nat.zero_add _) (fun v9 M9 H locs hP S hk => ?_) (fun E q ce M9 H9 locs9 hX => hX.elim)
                  obtain ⟨v10, rfl, h⟩ := hP
                  refine W.eq (g2 := F0 m 128 ls [.int v10]) rfl ?_
                  refine lv_goto (tgt := 132) hx hb dX4_cellAt_128 (by decide) ?_
                  exact j132 _ _ _ _ _ _ _ hk S (lv_sub hl [] rfl) h
                · have h := h.2 c9
                  refine lv_bipush (v := (-100)) hx hb dX4_cellAt_118 (by decide) ?_
                  refine lv_goto (tgt := 132) hx hb dX4_cellAt_120 (by decide) ?_
                  exact j132 _ _ _ _ _ _ _ hk S (lv_sub hl [] rfl) h
            · have h := h.2 c9
              refine lv_aload_n hx hb dX4_cellAt_94 rfl (lv_at hl 0 rfl) ?_
              refine mm_gfa C S (ci := 3) (k := 5) rfl in_X4 (by decide) q1675 (fun _ h9 => h9) dX4_cellAt_95 h (fun u11 h => ?_)
              refine lv_iload_n hx hb dX4_cellAt_98 rfl (lv_at hl 1 rfl) ?_
              refine mm_iald C S h dX4_cellAt_99 (fun v12 h => ?_)
              refine lv_goto (tgt := 132) hx hb dX4_cellAt_100 (by decide) ?_
              exact j132 _ _ _ _ _ _ _ hk S (lv_sub hl [] rfl) h
          · have h := h.2 c9
            refine lv_aload_n hx hb dX4_cellAt_80 rfl (lv_at hl 0 rfl) ?_
            refine mm_gfa C S (ci := 3) (k := 4) rfl in_X4 (by decide) q1674 (fun _ h9 => h9) dX4_cellAt_81 h (fun u13 h => ?_)
            refine lv_iload_n hx hb dX4_cellAt_84 rfl (lv_at hl 1 rfl) ?_
            refine mm_iald C S h dX4_cellAt_85 (fun v14 h => ?_)
            refine lv_goto (tgt := 132) hx hb dX4_cellAt_86 (by decide) ?_
            exact j132 _ _ _ _ _ _ _ hk S (lv_sub hl [] rfl) h
        · have h := h.2 c9
          refine lv_aload_n hx hb dX4_cellAt_66 rfl (lv_at hl 0 rfl) ?_
          refine mm_gfa C S (ci := 3) (k := 3) rfl in_X4 (by decide) q1673 (fun _ h9 => h9) dX4_cellAt_67 h (fun u15 h => ?_)
          refine lv_iload_n hx hb dX4_cellAt_70 rfl (lv_at hl 1 rfl) ?_
          refine mm_iald C S h dX4_cellAt_71 (fun v16 h => ?_)
          refine lv_goto (tgt := 132) hx hb dX4_cellAt_72 (by decide) ?_
          exact j132 _ _ _ _ _ _ _ hk S (lv_sub hl [] rfl) h
      · have h := h.2 c9
        refine lv_aload_n hx hb dX4_cellAt_39 rfl (lv_at hl 0 rfl) ?_
        refine lv_iload_n hx hb dX4_cellAt_40 rfl (lv_at hl 1 rfl) ?_
        refine lv_iload hx hb dX4_cellAt_41 (lv_at hl 4 rfl) ?_
        obtain ⟨hI, h⟩ := h
        refine mm_V (As := [.int x1, .int x4]) (rest := []) C S hl.1 (wk_X4_suits hst0 h) (T := TX4) rfl hI (lw_V q1844 q1846 qs23 q58 q1847) rfl pd_X4_suits ⟨Nat.le_of_ble_eq_true rfl, Nat.le_of_ble_eq_true rfl⟩ rfl rfl (Nat.le_of_ble_eq_true rfl) dX4_cellAt_43 rfl rfl hk (Nat.zero_add _) (fun v9 M17 H locs hP S hk => ?_) (fun E q ce M9 H9 locs9 hX => hX.elim)
        obtain ⟨v18, rfl, h⟩ := hP
        refine W.eq (g2 := F0 m 46 ls [.int v18]) rfl ?_
        refine lv_if_eq (tgt := 56) hx hb dX4_cellAt_46 (by decide) (fun c9 => ?_) (fun c9 => ?_)
        · have h := h.1 c9
          exact j56 _ _ _ _ _ _ _ _ _ _ _ hk S hl h
        · have h := h.2 c9
          refine lv_iload_n hx hb dX4_cellAt_49 rfl (lv_at hl 3 rfl) ?_
          refine lv_iconst (v := 1) hx hb dX4_cellAt_50 (by decide) ?_
          refine lv_iload hx hb dX4_cellAt_51 (lv_at hl 4 rfl) ?_
          refine lv_ishl hx hb dX4_cellAt_53 ?_
          refine lv_ior hx hb dX4_cellAt_54 ?_
          refine lv_topi (fun g19 eg19 => ?_)
          have h := h g19 eg19
          refine lv_istore_n (lv' := [(3, .int g19), (0, .ref a0), (1, .int x1), (2, .int x2), (4, .int x4)]) hx hb dX4_cellAt_55 rfl hl (by decide) rfl (fun ls hl => ?_)
          exact j56 _ _ _ _ _ _ _ _ _ _ _ hk S (lv_sub hl [1, 2, 3, 0, 4] rfl) h
  have j19 : ∀ (k r : Nat) (M : mM) (H : Heap) (locs : List Loc) (ls : Array Slot) (a0 : Nat) (x1 : Int32) (x2 : Int32) (s0 : Nat) (s1 : Int32) (s2 : Int32), k + r ≤ b → mW G A s M H locs → lv_has ls 5 [(0, .ref a0), (1, .int x1), (2, .int x2)] → wb_X4_cellAt_19 G P r M a0 x1 x2 s0 s1 s2 → W p l e (mRm 12 b) s m args below meth c H locs k k (vx_MQ below (mQ G A (mRi P)) (mXC G A (fun _ _ _ => False)) args s b b A) (F0 m 19 ls [.int s2, .int s1, .ref s0]) := by
    intro k r M H locs ls a0 x1 x2 s0 s1 s2 hk S hl h
    unfold wb_X4_cellAt_19 at h
    refine lv_iconst (v := 0) hx hb dX4_cellAt_19 (by decide) ?_
    obtain ⟨hI, h⟩ := h
    refine mm_V (As := [.int s1, .int s2, .int 0]) (rest := []) C S hl.1 (wk_X4_fails hst0 h) (T := TX4) rfl hI (lw_V q1836 q1838 qs22 q58 q1839) rfl pd_X4_fails ⟨Nat.le_of_ble_eq_true rfl, Nat.le_of_ble_eq_true rfl⟩ rfl rfl (Nat.le_of_ble_eq_true rfl) dX4_cellAt_20 rfl rfl hk (Nat.zero_add _) (fun v9 M5 H locs hP S hk => ?_) (fun E q ce M9 H9 locs9 hX => hX.elim)
    obtain ⟨v6, rfl, h⟩ := hP
    refine W.eq (g2 := F0 m 23 ls [.int v6]) rfl ?_
    refine lv_if_eq (tgt := 28) hx hb dX4_cellAt_23 (by decide) (fun c9 => ?_) (fun c9 => ?_)
    · have h := h.1 c9
      refine lv_iconst (v := 0) hx hb dX4_cellAt_28 (by decide) ?_
      refine lv_istore_n (lv' := [(3, .int 0), (0, .ref a0), (1, .int x1), (2, .int x2)]) hx hb dX4_cellAt_29 rfl hl (by decide) rfl (fun ls hl => ?_)
      refine lv_iconst (v := 0) hx hb dX4_cellAt_30 (by decide) ?_
      refine lv_istore (lv' := [(4, .int 0), (3, .int 0), (0, .ref a0), (1, .int x1), (2, .int x2)]) hx hb dX4_cellAt_31 hl (by decide) rfl (fun ls hl => ?_)
      obtain ⟨nf, h⟩ := h
      exact j33 nf _ _ _ _ _ _ _ _ _ _ _ hk S (lv_sub hl [2, 3, 4, 1, 0] rfl) h
    · have h := h.2 c9
      refine lv_iconst (v := 0) hx hb dX4_cellAt_26 (by decide) ?_
      exact mm_iret C S hr (Nat.le_trans (Nat.le_add_right _ _) hk) dX4_cellAt_27 h
  unfold wp_X4_cellAt at h
  refine lv_aload_n hx hb dX4_cellAt_0 rfl (lv_at hl 0 rfl) ?_
  refine lv_iload_n hx hb dX4_cellAt_1 rfl (lv_at hl 1 rfl) ?_
  refine mm_S (As := [.int x1]) (rest := [.ref a0]) C S hl.1 (wk_X4_noCell hst0 h) (lw_S q1827 q1828 q58 q1829) pd_X4_noCell ⟨Nat.le_of_ble_eq_true rfl, Nat.le_of_ble_eq_true rfl⟩ rfl rfl (Nat.le_of_ble_eq_true rfl) dX4_cellAt_2 rfl rfl hk (Nat.zero_add _) (fun v9 M1 H locs hP S hk => ?_) (fun E q ce M9 H9 locs9 hX => hX.elim)
  obtain ⟨v2, rfl, h⟩ := hP
  refine W.eq (g2 := F0 m 5 ls [.int v2, .ref a0]) rfl ?_
  refine lv_iload_n hx hb dX4_cellAt_5 rfl (lv_at hl 2 rfl) ?_
  refine lv_iconst (v := 0) hx hb dX4_cellAt_6 (by decide) ?_
  refine lv_iconst (v := 4) hx hb dX4_cellAt_7 (by decide) ?_
  refine mm_S (As := [.int x2, .int 0, .int 4]) (rest := [.int v2, .ref a0]) C S hl.1 (wk_X4_isIn hst0 h) (lw_S q1830 q1831 q58 q1832) pd_X4_isIn ⟨Nat.le_of_ble_eq_true rfl, Nat.le_of_ble_eq_true rfl⟩ rfl rfl (Nat.le_of_ble_eq_true rfl) dX4_cellAt_8 rfl rfl hk (Nat.zero_add _) (fun v9 M3 H locs hP S hk => ?_) (fun E q ce M9 H9 locs9 hX => hX.elim)
  obtain ⟨v4, rfl, h⟩ := hP
  refine W.eq (g2 := F0 m 11 ls [.int v4, .int v2, .ref a0]) rfl ?_
  refine lv_if_ne (tgt := 18) hx hb dX4_cellAt_11 (by decide) (fun c9 => ?_) (fun c9 => ?_)
  · have h := h.1 c9
    refine lv_iconst (v := 0) hx hb dX4_cellAt_18 (by decide) ?_
    exact j19 _ _ _ _ _ _ _ _ _ _ _ _ hk S hl h
  · have h := h.2 c9
    refine lv_iconst (v := 1) hx hb dX4_cellAt_14 (by decide) ?_
    refine lv_goto (tgt := 19) hx hb dX4_cellAt_15 (by decide) ?_
    exact j19 _ _ _ _ _ _ _ _ _ _ _ _ hk S hl h
/-! X4_closing: level 10 -/
def wb_X4_closing_38 (G : mG) (P : Int32 → mM → Prop) (K4 : Nat → mM → Nat → Int32 → Int32 → Prop) (r : Nat) (M : mM) (a0 : Nat) (x2 : Int32) (x3 : Int32) : Prop :=
  K4 r M a0 x2 (x3 + 1)
def wb_X4_closing_18 (G : mG) (P : Int32 → mM → Prop) (K4 : Nat → mM → Nat → Int32 → Int32 → Prop) (r : Nat) (M : mM) (a0 : Nat) (x2 : Int32) (x3 : Int32) : Prop :=
  gfa M a0 3 22 fun u3 => ldi M 0 u3 x3 fun v4 => (¬ v4 = 41 → wb_X4_closing_38 G P K4 r M a0 x2 x3) ∧ (v4 = 41 → (¬ (x2 + (-1)) = 0 → wb_X4_closing_38 G P K4 r M a0 (x2 + (-1)) x3) ∧ ((x2 + (-1)) = 0 → P x3 M))
def wl_X4_closing_4 (G : mG) (P : Int32 → mM → Prop) : Nat → Nat → mM → Nat → Int32 → Int32 → Prop
  | 0, _, _, _, _, _ => False
  | n + 1, r, M, a0, x2, x3 => gfa M a0 3 22 fun u1 => ldi M 0 u1 x3 fun v2 => (¬ v2 = 40 → wb_X4_closing_18 G P (wl_X4_closing_4 G P n) r M a0 x2 x3) ∧ (v2 = 40 → wb_X4_closing_18 G P (wl_X4_closing_4 G P n) r M a0 (x2 + 1) x3)
def wp_X4_closing (G : mG) (b : Nat) (P : Int32 → mM → Prop) (M : mM) (a0 : Nat) (x1 : Int32) : Prop :=
  ∃ n4, wl_X4_closing_4 G P n4 b M a0 0 x1
set_option maxHeartbeats 4000000 in
set_option maxRecDepth 100000 in
theorem wk_X4_closing {l : Launch} (hst0 : l.stackTraces = false) {G : mG} {b : Nat} {P : Int32 → mM → Prop} {M : mM} {a0 : Nat} {x1 : Int32} (h : wp_X4_closing G b P M a0 x1) : mMet l yX4_closing (ws_ yX4_closing cX4_closing 4 (Option.some Jvm.ClassFile.FieldType.int)) 10 b G [.ref a0, .int x1] M (mRi P) (fun _ _ _ => False) := by
  refine mm_met hst0 (by decide) (Nat.le_of_ble_eq_true rfl) ?_
  intro p e s m args below meth c ls C hr hnt hnm hl S
  have hl : lv_has ls 4 [(0, .ref a0), (1, .int x1)] := hl
  generalize mA M s.heap.size = A at C S ⊢
  have hx := C.hx
  have hb := C.hb
  have hk : 0 + b ≤ b := Nat.le_of_eq (Nat.zero_add b)
  have j4 : ∀ (nf : Nat) (k r : Nat) (M : mM) (H : Heap) (locs : List Loc) (ls : Array Slot) (a0 : Nat) (x2 : Int32) (x3 : Int32), k + r ≤ b → mW G A s M H locs → lv_has ls 4 [(0, .ref a0), (2, .int x2), (3, .int x3)] → wl_X4_closing_4 G P nf r M a0 x2 x3 → W p l e (mRm 10 b) s m args below meth c H locs k k (vx_MQ below (mQ G A (mRi P)) (mXC G A (fun _ _ _ => False)) args s b b A) (F0 m 4 ls []) := by
    intro nf
    induction nf with
    | zero =>
      intro k r M H locs ls a0 x2 x3 hk S hl h
      rw [wl_X4_closing_4] at h
      exact h.elim
    | succ n4 ih4 =>
      have j38 : ∀ (k r : Nat) (M : mM) (H : Heap) (locs : List Loc) (ls : Array Slot) (a0 : Nat) (x2 : Int32) (x3 : Int32), k + r ≤ b → mW G A s M H locs → lv_has ls 4 [(0, .ref a0), (2, .int x2), (3, .int x3)] → wb_X4_closing_38 G P (wl_X4_closing_4 G P n4) r M a0 x2 x3 → W p l e (mRm 10 b) s m args below meth c H locs k k (vx_MQ below (mQ G A (mRi P)) (mXC G A (fun _ _ _ => False)) args s b b A) (F0 m 38 ls []) := by
        intro k r M H locs ls a0 x2 x3 hk S hl h
        unfold wb_X4_closing_38 at h
        refine lv_iinc (v := (x3 + 1)) (lv' := [(3, .int (x3 + 1)), (0, .ref a0), (2, .int x2)]) hx hb dX4_closing_38 hl (k := 2) rfl rfl (by decide) rfl (fun ls hl => ?_)
        refine lv_goto (tgt := 4) hx hb dX4_closing_41 (by decide) ?_
        exact ih4 _ _ _ _ _ _ _ _ _ hk S (lv_sub hl [1, 2, 0] rfl) h
      have j18 : ∀ (k r : Nat) (M : mM) (H : Heap) (locs : List Loc) (ls : Array Slot) (a0 : Nat) (x2 : Int32) (x3 : Int32), k + r ≤ b → mW G A s M H locs → lv_has ls 4 [(0, .ref a0), (2, .int x2), (3, .int x3)] → wb_X4_closing_18 G P (wl_X4_closing_4 G P n4) r M a0 x2 x3 → W p l e (mRm 10 b) s m args below meth c H locs k k (vx_MQ below (mQ G A (mRi P)) (mXC G A (fun _ _ _ => False)) args s b b A) (F0 m 18 ls []) := by
        intro k r M H locs ls a0 x2 x3 hk S hl h
        unfold wb_X4_closing_18 at h
        refine lv_aload_n hx hb dX4_closing_18 rfl (lv_at hl 0 rfl) ?_
        refine mm_gfa C S (ci := 3) (k := 22) rfl in_X4 (by decide) q1692 (fun _ h9 => h9) dX4_closing_19 h (fun u3 h => ?_)
        refine lv_iload_n hx hb dX4_closing_22 rfl (lv_at hl 2 rfl) ?_
        refine mm_iald C S h dX4_closing_23 (fun v4 h => ?_)
        refine lv_bipush (v := 41) hx hb dX4_closing_24 (by decide) ?_
        refine lv_icmp_ne (tgt := 38) hx hb dX4_closing_26 (by decide) (fun c9 => ?_) (fun c9 => ?_)
        · have h := h.1 c9
          exact j38 _ _ _ _ _ _ _ _ _ hk S hl h
        · have h := h.2 c9
          refine lv_iinc (v := (x2 + (-1))) (lv' := [(2, .int (x2 + (-1))), (0, .ref a0), (3, .int x3)]) hx hb dX4_closing_29 hl (k := 1) rfl rfl (by decide) rfl (fun ls hl => ?_)
          refine lv_iload_n hx hb dX4_closing_32 rfl (lv_at hl 0 rfl) ?_
          refine lv_if_ne (tgt := 38) hx hb dX4_closing_33 (by decide) (fun c9 => ?_) (fun c9 => ?_)
          · have h := h.1 c9
            exact j38 _ _ _ _ _ _ _ _ _ hk S (lv_sub hl [1, 0, 2] rfl) h
          · have h := h.2 c9
            refine lv_iload_n hx hb dX4_closing_36 rfl (lv_at hl 2 rfl) ?_
            exact mm_iret C S hr (Nat.le_trans (Nat.le_add_right _ _) hk) dX4_closing_37 h
      intro k r M H locs ls a0 x2 x3 hk S hl h
      rw [wl_X4_closing_4] at h
      refine lv_aload_n hx hb dX4_closing_4 rfl (lv_at hl 0 rfl) ?_
      refine mm_gfa C S (ci := 3) (k := 22) rfl in_X4 (by decide) q1692 (fun _ h9 => h9) dX4_closing_5 h (fun u1 h => ?_)
      refine lv_iload_n hx hb dX4_closing_8 rfl (lv_at hl 2 rfl) ?_
      refine mm_iald C S h dX4_closing_9 (fun v2 h => ?_)
      refine lv_bipush (v := 40) hx hb dX4_closing_10 (by decide) ?_
      refine lv_icmp_ne (tgt := 18) hx hb dX4_closing_12 (by decide) (fun c9 => ?_) (fun c9 => ?_)
      · have h := h.1 c9
        exact j18 _ _ _ _ _ _ _ _ _ hk S hl h
      · have h := h.2 c9
        refine lv_iinc (v := (x2 + 1)) (lv' := [(2, .int (x2 + 1)), (0, .ref a0), (3, .int x3)]) hx hb dX4_closing_15 hl (k := 1) rfl rfl (by decide) rfl (fun ls hl => ?_)
        exact j18 _ _ _ _ _ _ _ _ _ hk S (lv_sub hl [1, 0, 2] rfl) h
  unfold wp_X4_closing at h
  refine lv_iconst (v := 0) hx hb dX4_closing_0 (by decide) ?_
  refine lv_istore_n (lv' := [(2, .int 0), (0, .ref a0), (1, .int x1)]) hx hb dX4_closing_1 rfl hl (by decide) rfl (fun ls hl => ?_)
  refine lv_iload_n hx hb dX4_closing_2 rfl (lv_at hl 2 rfl) ?_
  refine lv_istore_n (lv' := [(3, .int x1), (2, .int 0), (0, .ref a0), (1, .int x1)]) hx hb dX4_closing_3 rfl hl (by decide) rfl (fun ls hl => ?_)
  obtain ⟨nf, h⟩ := h
  exact j4 nf _ _ _ _ _ _ _ _ _ hk S (lv_sub hl [2, 1, 0] rfl) h
/-! X4_noKind: level 11 -/
def wb_X4_noKind_14 (G : mG) (P : Int32 → mM → Prop) (r : Nat) (M : mM) (s0 : Int32) : Prop :=
  narrow .boolean (.int s0) = .int s0 ∧ P s0 M
def wp_X4_noKind (G : mG) (b : Nat) (P : Int32 → mM → Prop) (M : mM) (x0 : Int32) : Prop :=
  wp_X4_isIn G 0 (fun v2 M1 => (¬ v2 = 0 → wb_X4_noKind_14 G P b M1 0) ∧ (v2 = 0 → wb_X4_noKind_14 G P b M1 1)) M x0 0 3
set_option maxHeartbeats 4000000 in
set_option maxRecDepth 100000 in
theorem wk_X4_noKind {l : Launch} (hst0 : l.stackTraces = false) {G : mG} {b : Nat} {P : Int32 → mM → Prop} {M : mM} {x0 : Int32} (h : wp_X4_noKind G b P M x0) : mMet l yX4_noKind (ws_ yX4_noKind cX4_noKind 1 (Option.some Jvm.ClassFile.FieldType.boolean)) 11 b G [.int x0] M (mRi P) (fun _ _ _ => False) := by
  refine mm_met hst0 (by decide) (Nat.le_of_ble_eq_true rfl) ?_
  intro p e s m args below meth c ls C hr hnt hnm hl S
  have hl : lv_has ls 1 [(0, .int x0)] := hl
  generalize mA M s.heap.size = A at C S ⊢
  have hx := C.hx
  have hb := C.hb
  have hk : 0 + b ≤ b := Nat.le_of_eq (Nat.zero_add b)
  have j14 : ∀ (k r : Nat) (M : mM) (H : Heap) (locs : List Loc) (ls : Array Slot) (s0 : Int32), k + r ≤ b → mW G A s M H locs → lv_has ls 1 [] → wb_X4_noKind_14 G P r M s0 → W p l e (mRm 11 b) s m args below meth c H locs k k (vx_MQ below (mQ G A (mRi P)) (mXC G A (fun _ _ _ => False)) args s b b A) (F0 m 14 ls [.int s0]) := by
    intro k r M H locs ls s0 hk S hl h
    unfold wb_X4_noKind_14 at h
    exact mm_zret C S hr (Nat.le_trans (Nat.le_add_right _ _) hk) dX4_noKind_14 h
  unfold wp_X4_noKind at h
  refine lv_iload_n hx hb dX4_noKind_0 rfl (lv_at hl 0 rfl) ?_
  refine lv_iconst (v := 0) hx hb dX4_noKind_1 (by decide) ?_
  refine lv_iconst (v := 3) hx hb dX4_noKind_2 (by decide) ?_
  refine mm_S (As := [.int x0, .int 0, .int 3]) (rest := []) C S hl.1 (wk_X4_isIn hst0 h) (lw_S q1830 q1831 q58 q1832) pd_X4_isIn ⟨Nat.le_of_ble_eq_true rfl, Nat.le_of_ble_eq_true rfl⟩ rfl rfl (Nat.le_of_ble_eq_true rfl) dX4_noKind_3 rfl rfl hk (Nat.zero_add _) (fun v9 M1 H locs hP S hk => ?_) (fun E q ce M9 H9 locs9 hX => hX.elim)
  obtain ⟨v2, rfl, h⟩ := hP
  refine W.eq (g2 := F0 m 6 ls [.int v2]) rfl ?_
  refine lv_if_ne (tgt := 13) hx hb dX4_noKind_6 (by decide) (fun c9 => ?_) (fun c9 => ?_)
  · have h := h.1 c9
    refine lv_iconst (v := 0) hx hb dX4_noKind_13 (by decide) ?_
    exact j14 _ _ _ _ _ _ _ hk S (lv_sub hl [] rfl) h
  · have h := h.2 c9
    refine lv_iconst (v := 1) hx hb dX4_noKind_9 (by decide) ?_
    refine lv_goto (tgt := 14) hx hb dX4_noKind_10 (by decide) ?_
    exact j14 _ _ _ _ _ _ _ hk S (lv_sub hl [] rfl) h
/-! X4_curveOf: level 15 -/
def wb_X4_curveOf_119 (R_X4_curveOf : mG → Nat → (Int32 → mM → Prop) → mM → Nat → Int32 → Int32 → Int32 → Prop) (G : mG) (P : Int32 → mM → Prop) (r : Nat) (M : mM) (a0 : Nat) (x1 : Int32) (x2 : Int32) (x3 : Int32) (x4 : Int32) : Prop :=
  isc M a0 3 ∧ (R_X4_curveOf G 0 (fun v26 M25 => ∀ g27 : Int32, g27 = (if v26 < x4 then v26 else x4) → P g27 M25) M a0 x1 x2 (x3 - 1))
def wb_X4_curveOf_33 (R_X4_curveOf : mG → Nat → (Int32 → mM → Prop) → mM → Nat → Int32 → Int32 → Int32 → Prop) (G : mG) (P : Int32 → mM → Prop) (r : Nat) (M : mM) (a0 : Nat) (x1 : Int32) (x2 : Int32) (x3 : Int32) (s0 : Int32) : Prop :=
  gfa M a0 3 43 fun u1 => lda M 8 u1 x2 fun u2 => ldi M 0 u2 x3 fun v3 => (v3 ≤ 0 → wb_X4_curveOf_119 R_X4_curveOf G P r M a0 x1 x2 x3 s0) ∧ (¬ v3 ≤ 0 → gfa M a0 3 44 fun u4 => lda M 9 u4 x1 fun u5 => lda M 8 u5 x2 fun u6 => ldi M 0 u6 0 fun v7 => (v7 ≤ 0 → wb_X4_curveOf_119 R_X4_curveOf G P r M a0 x1 x2 x3 s0) ∧ (¬ v7 ≤ 0 → gfa M a0 3 44 fun u8 => lda M 9 u8 x1 fun u9 => lda M 8 u9 x2 fun u10 => ldi M 0 u10 x3 fun v11 => gfa M a0 3 43 fun u12 => lda M 8 u12 x2 fun u13 => ldi M 0 u13 0 fun v14 => ∀ g15 : Int64, g15 = ((1000 * v11.toInt64) * v14.toInt64) → gfa M a0 3 43 fun u16 => lda M 8 u16 x2 fun u17 => ldi M 0 u17 x3 fun v18 => gfa M a0 3 44 fun u19 => lda M 9 u19 x1 fun u20 => lda M 8 u20 x2 fun u21 => ldi M 0 u21 0 fun v22 => ∀ g23 : Int64, g23 = (v18.toInt64 * v22.toInt64) → ¬ g23 = 0 ∧ (∀ g24 : Int64, g24 = (if (g15 / g23) < (1000 : Int64) then (g15 / g23) else (1000 : Int64)) → wb_X4_curveOf_119 R_X4_curveOf G P r M a0 x1 x2 x3 g24.toInt32)))
def wp_X4_curveOf (R_X4_curveOf : mG → Nat → (Int32 → mM → Prop) → mM → Nat → Int32 → Int32 → Int32 → Prop) (G : mG) (b : Nat) (P : Int32 → mM → Prop) (M : mM) (a0 : Nat) (x1 : Int32) (x2 : Int32) (x3 : Int32) : Prop :=
  (¬ x3 = 0 → (¬ x3 = 1 → (¬ x3 = 2 → wb_X4_curveOf_33 R_X4_curveOf G P b M a0 x1 x2 x3 200) ∧ (x3 = 2 → wb_X4_curveOf_33 R_X4_curveOf G P b M a0 x1 x2 x3 500)) ∧ (x3 = 1 → wb_X4_curveOf_33 R_X4_curveOf G P b M a0 x1 x2 x3 800)) ∧ (x3 = 0 → P 1000 M)
set_option maxHeartbeats 4000000 in
set_option maxRecDepth 100000 in
theorem wks_X4_curveOf {l : Launch} (hst0 : l.stackTraces = false) {Lr : Nat} (hLr : 10 ≤ Lr) {R_X4_curveOf : mG → Nat → (Int32 → mM → Prop) → mM → Nat → Int32 → Int32 → Int32 → Prop} (hrec_X4_curveOf : ∀ {G : mG} {b : Nat} {P : Int32 → mM → Prop} {M : mM} {a0 : Nat} {x1 : Int32} {x2 : Int32} {x3 : Int32}, R_X4_curveOf G b P M a0 x1 x2 x3 → mMet l yX4_curveOf (ws_ yX4_curveOf cX4_curveOf 7 (Option.some Jvm.ClassFile.FieldType.int)) Lr b G [.ref a0, .int x1, .int x2, .int x3] M (mRi P) (fun _ _ _ => False)) {G : mG} {b : Nat} {P : Int32 → mM → Prop} {M : mM} {a0 : Nat} {x1 : Int32} {x2 : Int32} {x3 : Int32} (h : wp_X4_curveOf R_X4_curveOf G b P M a0 x1 x2 x3) : mMet l yX4_curveOf (ws_ yX4_curveOf cX4_curveOf 7 (Option.some Jvm.ClassFile.FieldType.int)) (Lr + 1) b G [.ref a0, .int x1, .int x2, .int x3] M (mRi P) (fun _ _ _ => False) := by
  refine mm_met hst0 (by decide) (Nat.le_of_ble_eq_true rfl) ?_
  intro p e s m args below meth c ls C hr hnt hnm hl S
  have hl : lv_has ls 7 [(0, .ref a0), (1, .int x1), (2, .int x2), (3, .int x3)] := hl
  generalize mA M s.heap.size = A at C S ⊢
  have hx := C.hx
  have hb := C.hb
  have hk : 0 + b ≤ b := Nat.le_of_eq (Nat.zero_add b)
  have j119 : ∀ (k r : Nat) (M : mM) (H : Heap) (locs : List Loc) (ls : Array Slot) (a0 : Nat) (x1 : Int32) (x2 : Int32) (x3 : Int32) (x4 : Int32), k + r ≤ b → mW G A s M H locs → lv_has ls 7 [(0, .ref a0), (1, .int x1), (2, .int x2), (3, .int x3), (4, .int x4)] → wb_X4_curveOf_119 R_X4_curveOf G P r M a0 x1 x2 x3 x4 → W p l e (mRm (Lr + 1) b) s m args below meth c H locs k k (vx_MQ below (mQ G A (mRi P)) (mXC G A (fun _ _ _ => False)) args s b b A) (F0 m 119 ls []) := by
    intro k r M H locs ls a0 x1 x2 x3 x4 hk S hl h
    unfold wb_X4_curveOf_119 at h
    refine lv_iload hx hb dX4_curveOf_119 (lv_at hl 4 rfl) ?_
    refine lv_aload_n hx hb dX4_curveOf_121 rfl (lv_at hl 0 rfl) ?_
    refine lv_iload_n hx hb dX4_curveOf_122 rfl (lv_at hl 1 rfl) ?_
    refine lv_iload_n hx hb dX4_curveOf_123 rfl (lv_at hl 2 rfl) ?_
    refine lv_iload_n hx hb dX4_curveOf_124 rfl (lv_at hl 3 rfl) ?_
    refine lv_iconst (v := 1) hx hb dX4_curveOf_125 (by decide) ?_
    refine lv_isub hx hb dX4_curveOf_126 ?_
    obtain ⟨hI, h⟩ := h
    refine mm_V (As := [.int x1, .int x2, .int (x3 - 1)]) (rest := [.int x4]) C S hl.1 (hrec_X4_curveOf h) (T := TX4) rfl hI (lw_V q2020 q2022 qs45 q58 q2023) rfl pd_X4_curveOf ⟨by simp only [mRm]; omega, by simp only [mRm]; omega⟩ rfl rfl (Nat.le_of_ble_eq_true rfl) dX4_curveOf_127 rfl rfl hk (Nat.zero_add _) (fun v9 M25 H locs hP S hk => ?_) (fun E q ce M9 H9 locs9 hX => hX.elim)
    obtain ⟨v26, rfl, h⟩ := hP
    refine W.eq (g2 := F0 m 130 ls [.int v26, .int x4]) rfl ?_
    refine mm_min C hl.1 q1879 q331 q68 q332 (by simp only [mRm]; omega) (Nat.le_trans (m := 640) (Nat.le_of_ble_eq_true rfl) (by simp only [mRm]; omega)) (Nat.le_trans (Nat.le_add_right _ _) hk) (Nat.le_trans (Nat.le_add_right _ _) hk) dX4_curveOf_130 ?_
    refine lv_topi (fun g27 eg27 => ?_)
    have h := h g27 eg27
    exact mm_iret C S hr (Nat.le_trans (Nat.le_add_right _ _) hk) dX4_curveOf_133 h
  have j33 : ∀ (k r : Nat) (M : mM) (H : Heap) (locs : List Loc) (ls : Array Slot) (a0 : Nat) (x1 : Int32) (x2 : Int32) (x3 : Int32) (s0 : Int32), k + r ≤ b → mW G A s M H locs → lv_has ls 7 [(0, .ref a0), (1, .int x1), (2, .int x2), (3, .int x3)] → wb_X4_curveOf_33 R_X4_curveOf G P r M a0 x1 x2 x3 s0 → W p l e (mRm (Lr + 1) b) s m args below meth c H locs k k (vx_MQ below (mQ G A (mRi P)) (mXC G A (fun _ _ _ => False)) args s b b A) (F0 m 33 ls [.int s0]) := by
    intro k r M H locs ls a0 x1 x2 x3 s0 hk S hl h
    unfold wb_X4_curveOf_33 at h
    refine lv_istore (lv' := [(4, .int s0), (0, .ref a0), (1, .int x1), (2, .int x2), (3, .int x3)]) hx hb dX4_curveOf_33 hl (by decide) rfl (fun ls hl => ?_)
    refine lv_aload_n hx hb dX4_curveOf_35 rfl (lv_at hl 1 rfl) ?_
    refine mm_gfa C S (ci := 3) (k := 43) rfl in_X4 (by decide) q1713 (fun _ h9 => h9) dX4_curveOf_36 h (fun u1 h => ?_)
    refine lv_iload_n hx hb dX4_curveOf_39 rfl (lv_at hl 3 rfl) ?_
    refine mm_aald C S (t := 8) rfl rfl h dX4_curveOf_40 (fun u2 h => ?_)
    refine lv_iload_n hx hb dX4_curveOf_41 rfl (lv_at hl 4 rfl) ?_
    refine mm_iald C S h dX4_curveOf_42 (fun v3 h => ?_)
    refine lv_if_le (tgt := 119) hx hb dX4_curveOf_43 (by decide) (fun c9 => ?_) (fun c9 => ?_)
    · have h := h.1 c9
      exact j119 _ _ _ _ _ _ _ _ _ _ _ hk S (lv_sub hl [1, 2, 3, 4, 0] rfl) h
    · have h := h.2 c9
      refine lv_aload_n hx hb dX4_curveOf_46 rfl (lv_at hl 1 rfl) ?_
      refine mm_gfa C S (ci := 3) (k := 44) rfl in_X4 (by decide) q1714 (fun _ h9 => h9) dX4_curveOf_47 h (fun u4 h => ?_)
      refine lv_iload_n hx hb dX4_curveOf_50 rfl (lv_at hl 2 rfl) ?_
      refine mm_aald C S (t := 9) rfl rfl h dX4_curveOf_51 (fun u5 h => ?_)
      refine lv_iload_n hx hb dX4_curveOf_52 rfl (lv_at hl 3 rfl) ?_
      refine mm_aald C S (t := 8) rfl rfl h dX4_curveOf_53 (fun u6 h => ?_)
      refine lv_iconst (v := 0) hx hb dX4_curveOf_54 (by decide) ?_
      refine mm_iald C S h dX4_curveOf_55 (fun v7 h => ?_)
      refine lv_if_le (tgt := 119) hx hb dX4_curveOf_56 (by decide) (fun c9 => ?_) (fun c9 => ?_)
      · have h := h.1 c9
        exact j119 _ _ _ _ _ _ _ _ _ _ _ hk S (lv_sub hl [1, 2, 3, 4, 0] rfl) h
      · have h := h.2 c9
        refine lv_ldc2 hx hb C.hown (C.ts _ q2014) dX4_curveOf_59 ?_
        refine lv_aload_n hx hb dX4_curveOf_62 rfl (lv_at hl 1 rfl) ?_
        refine mm_gfa C S (ci := 3) (k := 44) rfl in_X4 (by decide) q1714 (fun _ h9 => h9) dX4_curveOf_63 h (fun u8 h => ?_)
        refine lv_iload_n hx hb dX4_curveOf_66 rfl (lv_at hl 2 rfl) ?_
        refine mm_aald C S (t := 9) rfl rfl h dX4_curveOf_67 (fun u9 h => ?_)
        refine lv_iload_n hx hb dX4_curveOf_68 rfl (lv_at hl 3 rfl) ?_
        refine mm_aald C S (t := 8) rfl rfl h dX4_curveOf_69 (fun u10 h => ?_)
        refine lv_iload_n hx hb dX4_curveOf_70 rfl (lv_at hl 4 rfl) ?_
        refine mm_iald C S h dX4_curveOf_71 (fun v11 h => ?_)
        refine lv_i2l hx hb dX4_curveOf_72 rfl ?_
        refine lv_lmul hx hb dX4_curveOf_73 ?_
        refine lv_aload_n hx hb dX4_curveOf_74 rfl (lv_at hl 1 rfl) ?_
        refine mm_gfa C S (ci := 3) (k := 43) rfl in_X4 (by decide) q1713 (fun _ h9 => h9) dX4_curveOf_75 h (fun u12 h => ?_)
        refine lv_iload_n hx hb dX4_curveOf_78 rfl (lv_at hl 3 rfl) ?_
        refine mm_aald C S (t := 8) rfl rfl h dX4_curveOf_79 (fun u13 h => ?_)
        refine lv_iconst (v := 0) hx hb dX4_curveOf_80 (by decide) ?_
        refine mm_iald C S h dX4_curveOf_81 (fun v14 h => ?_)
        refine lv_i2l hx hb dX4_curveOf_82 rfl ?_
        refine lv_lmul hx hb dX4_curveOf_83 ?_
        refine lv_topl (fun g15 eg15 => ?_)
        have h := h g15 eg15
        refine lv_aload_n hx hb dX4_curveOf_84 rfl (lv_at hl 1 rfl) ?_
        refine mm_gfa C S (ci := 3) (k := 43) rfl in_X4 (by decide) q1713 (fun _ h9 => h9) dX4_curveOf_85 h (fun u16 h => ?_)
        refine lv_iload_n hx hb dX4_curveOf_88 rfl (lv_at hl 3 rfl) ?_
        refine mm_aald C S (t := 8) rfl rfl h dX4_curveOf_89 (fun u17 h => ?_)
        refine lv_iload_n hx hb dX4_curveOf_90 rfl (lv_at hl 4 rfl) ?_
        refine mm_iald C S h dX4_curveOf_91 (fun v18 h => ?_)
        refine lv_i2l hx hb dX4_curveOf_92 rfl ?_
        refine lv_aload_n hx hb dX4_curveOf_93 rfl (lv_at hl 1 rfl) ?_
        refine mm_gfa C S (ci := 3) (k := 44) rfl in_X4 (by decide) q1714 (fun _ h9 => h9) dX4_curveOf_94 h (fun u19 h => ?_)
        refine lv_iload_n hx hb dX4_curveOf_97 rfl (lv_at hl 2 rfl) ?_
        refine mm_aald C S (t := 9) rfl rfl h dX4_curveOf_98 (fun u20 h => ?_)
        refine lv_iload_n hx hb dX4_curveOf_99 rfl (lv_at hl 3 rfl) ?_
        refine mm_aald C S (t := 8) rfl rfl h dX4_curveOf_100 (fun u21 h => ?_)
        refine lv_iconst (v := 0) hx hb dX4_curveOf_101 (by decide) ?_
        refine mm_iald C S h dX4_curveOf_102 (fun v22 h => ?_)
        refine lv_i2l hx hb dX4_curveOf_103 rfl ?_
        refine lv_lmul hx hb dX4_curveOf_104 ?_
        refine lv_topl (fun g23 eg23 => ?_)
        have h := h g23 eg23
        refine lv_ldiv hx hb dX4_curveOf_105 h.1 ?_
        have h := h.2
        refine lv_lstore (lv' := [(5, .long (g15 / g23)), (4, .int s0), (0, .ref a0), (1, .int x1), (2, .int x2), (3, .int x3)]) hx hb dX4_curveOf_106 hl (by decide) rfl (fun ls hl => ?_)
        refine lv_ldc2 hx hb C.hown (C.ts _ q2014) dX4_curveOf_108 ?_
        refine lv_lload hx hb dX4_curveOf_111 (lv_at hl 0 rfl) ?_
        refine mm_minl C hl.1 q2024 q1575 q68 q1576 (by simp only [mRm]; omega) (Nat.le_trans (m := 640) (Nat.le_of_ble_eq_true rfl) (by simp only [mRm]; omega)) (Nat.le_trans (Nat.le_add_right _ _) hk) (Nat.le_trans (Nat.le_add_right _ _) hk) dX4_curveOf_113 ?_
        refine lv_topl (fun g24 eg24 => ?_)
        have h := h g24 eg24
        refine lv_l2i hx hb dX4_curveOf_116 rfl ?_
        refine lv_istore (lv' := [(4, .int g24.toInt32), (5, .long (g15 / g23)), (0, .ref a0), (1, .int x1), (2, .int x2), (3, .int x3)]) hx hb dX4_curveOf_117 hl (by decide) rfl (fun ls hl => ?_)
        exact j119 _ _ _ _ _ _ _ _ _ _ _ hk S (lv_sub hl [2, 3, 4, 5, 0] rfl) h
  unfold wp_X4_curveOf at h
  refine lv_iload_n hx hb dX4_curveOf_0 rfl (lv_at hl 3 rfl) ?_
  refine lv_if_ne (tgt := 8) hx hb dX4_curveOf_1 (by decide) (fun c9 => ?_) (fun c9 => ?_)
  · have h := h.1 c9
    refine lv_iload_n hx hb dX4_curveOf_8 rfl (lv_at hl 3 rfl) ?_
    refine lv_iconst (v := 1) hx hb dX4_curveOf_9 (by decide) ?_
    refine lv_icmp_ne (tgt := 19) hx hb dX4_curveOf_10 (by decide) (fun c9 => ?_) (fun c9 => ?_)
    · have h := h.1 c9
      refine lv_iload_n hx hb dX4_curveOf_19 rfl (lv_at hl 3 rfl) ?_
      refine lv_iconst (v := 2) hx hb dX4_curveOf_20 (by decide) ?_
      refine lv_icmp_ne (tgt := 30) hx hb dX4_curveOf_21 (by decide) (fun c9 => ?_) (fun c9 => ?_)
      · have h := h.1 c9
        refine lv_sipush (v := 200) hx hb dX4_curveOf_30 (by decide) ?_
        exact j33 _ _ _ _ _ _ _ _ _ _ _ hk S hl h
      · have h := h.2 c9
        refine lv_sipush (v := 500) hx hb dX4_curveOf_24 (by decide) ?_
        refine lv_goto (tgt := 33) hx hb dX4_curveOf_27 (by decide) ?_
        exact j33 _ _ _ _ _ _ _ _ _ _ _ hk S hl h
    · have h := h.2 c9
      refine lv_sipush (v := 800) hx hb dX4_curveOf_13 (by decide) ?_
      refine lv_goto (tgt := 33) hx hb dX4_curveOf_16 (by decide) ?_
      exact j33 _ _ _ _ _ _ _ _ _ _ _ hk S hl h
  · have h := h.2 c9
    refine lv_sipush (v := 1000) hx hb dX4_curveOf_4 (by decide) ?_
    exact mm_iret C S hr (Nat.le_trans (Nat.le_add_right _ _) hk) dX4_curveOf_7 h
def wR_X4_curveOf : Nat → (mG → Nat → (Int32 → mM → Prop) → mM → Nat → Int32 → Int32 → Int32 → Prop)
  | 0 => (fun _ _ _ _ _ _ _ _ => False)
  | d + 1 => (wp_X4_curveOf (wR_X4_curveOf d))
def wr_X4_curveOf (d : Nat) : mG → Nat → (Int32 → mM → Prop) → mM → Nat → Int32 → Int32 → Int32 → Prop := (wR_X4_curveOf d)
theorem wK_X4_curveOf {l : Launch} (hst0 : l.stackTraces = false) : ∀ d : Nat, (∀ {G : mG} {b : Nat} {P : Int32 → mM → Prop} {M : mM} {a0 : Nat} {x1 : Int32} {x2 : Int32} {x3 : Int32}, wr_X4_curveOf d G b P M a0 x1 x2 x3 → mMet l yX4_curveOf (ws_ yX4_curveOf cX4_curveOf 7 (Option.some Jvm.ClassFile.FieldType.int)) (10 + d) b G [.ref a0, .int x1, .int x2, .int x3] M (mRi P) (fun _ _ _ => False)) ∧ True
  | 0 => ⟨fun h => h.elim, trivial⟩
  | d + 1 => by
    have ih := wK_X4_curveOf hst0 d
    exact ⟨fun h => wks_X4_curveOf hst0 (Lr := 10 + d) (by omega) (fun h => (ih.1) h) h, trivial⟩
theorem wk_X4_curveOf {l : Launch} (hst0 : l.stackTraces = false) {G : mG} {b : Nat} {P : Int32 → mM → Prop} {M : mM} {a0 : Nat} {x1 : Int32} {x2 : Int32} {x3 : Int32} (h : wr_X4_curveOf 5 G b P M a0 x1 x2 x3) : mMet l yX4_curveOf (ws_ yX4_curveOf cX4_curveOf 7 (Option.some Jvm.ClassFile.FieldType.int)) 15 b G [.ref a0, .int x1, .int x2, .int x3] M (mRi P) (fun _ _ _ => False) := (wK_X4_curveOf hst0 5).1 h
/-! X4_curve: level 16 -/
def wb_X4_curve_46 (G : mG) (P : Int32 → mM → Prop) (r : Nat) (M : mM) (s0 : Int32) : Prop :=
  P s0 M
def wb_X4_curve_28 (G : mG) (P : Int32 → mM → Prop) (r : Nat) (M : mM) (a0 : Nat) (x1 : Int32) (x2 : Int32) (x3 : Int32) (s0 : Nat) (s1 : Int32) (s2 : Int32) : Prop :=
  isc M s0 3 ∧ (wp_X4_fails G 0 (fun v8 M7 => (v8 = 0 → isc M7 a0 3 ∧ (wr_X4_curveOf 5 G 0 (fun v10 M9 => wb_X4_curve_46 G P r M9 v10) M7 a0 x1 x2 x3)) ∧ (¬ v8 = 0 → wb_X4_curve_46 G P r M7 0)) M s0 s1 s2 0)
def wb_X4_curve_23 (G : mG) (P : Int32 → mM → Prop) (r : Nat) (M : mM) (a0 : Nat) (x1 : Int32) (x2 : Int32) (x3 : Int32) (s0 : Nat) (s1 : Int32) : Prop :=
  wb_X4_curve_28 G P r M a0 x1 x2 x3 s0 s1 1
def wp_X4_curve (G : mG) (b : Nat) (P : Int32 → mM → Prop) (M : mM) (a0 : Nat) (x1 : Int32) (x2 : Int32) (x3 : Int32) : Prop :=
  wp_X4_noKind G 0 (fun v2 M1 => wp_X4_isIn G 0 (fun v4 M3 => (v4 = 0 → wb_X4_curve_23 G P b M3 a0 x1 x2 x3 a0 v2) ∧ (¬ v4 = 0 → wp_X4_isIn G 0 (fun v6 M5 => (¬ v6 = 0 → wb_X4_curve_28 G P b M5 a0 x1 x2 x3 a0 v2 0) ∧ (v6 = 0 → wb_X4_curve_23 G P b M5 a0 x1 x2 x3 a0 v2)) M3 x3 0 3)) M1 x2 0 2) M x1
set_option maxHeartbeats 4000000 in
set_option maxRecDepth 100000 in
theorem wk_X4_curve {l : Launch} (hst0 : l.stackTraces = false) {G : mG} {b : Nat} {P : Int32 → mM → Prop} {M : mM} {a0 : Nat} {x1 : Int32} {x2 : Int32} {x3 : Int32} (h : wp_X4_curve G b P M a0 x1 x2 x3) : mMet l yX4_curve (ws_ yX4_curve cX4_curve 4 (Option.some Jvm.ClassFile.FieldType.int)) 16 b G [.ref a0, .int x1, .int x2, .int x3] M (mRi P) (fun _ _ _ => False) := by
  refine mm_met hst0 (by decide) (Nat.le_of_ble_eq_true rfl) ?_
  intro p e s m args below meth c ls C hr hnt hnm hl S
  have hl : lv_has ls 4 [(0, .ref a0), (1, .int x1), (2, .int x2), (3, .int x3)] := hl
  generalize mA M s.heap.size = A at C S ⊢
  have hx := C.hx
  have hb := C.hb
  have hk : 0 + b ≤ b := Nat.le_of_eq (Nat.zero_add b)
  have j46 : ∀ (k r : Nat) (M : mM) (H : Heap) (locs : List Loc) (ls : Array Slot) (s0 : Int32), k + r ≤ b → mW G A s M H locs → lv_has ls 4 [] → wb_X4_curve_46 G P r M s0 → W p l e (mRm 16 b) s m args below meth c H locs k k (vx_MQ below (mQ G A (mRi P)) (mXC G A (fun _ _ _ => False)) args s b b A) (F0 m 46 ls [.int s0]) := by
    intro k r M H locs ls s0 hk S hl h
    unfold wb_X4_curve_46 at h
    exact mm_iret C S hr (Nat.le_trans (Nat.le_add_right _ _) hk) dX4_curve_46 h
  have j28 : ∀ (k r : Nat) (M : mM) (H : Heap) (locs : List Loc) (ls : Array Slot) (a0 : Nat) (x1 : Int32) (x2 : Int32) (x3 : Int32) (s0 : Nat) (s1 : Int32) (s2 : Int32), k + r ≤ b → mW G A s M H locs → lv_has ls 4 [(0, .ref a0), (1, .int x1), (2, .int x2), (3, .int x3)] → wb_X4_curve_28 G P r M a0 x1 x2 x3 s0 s1 s2 → W p l e (mRm 16 b) s m args below meth c H locs k k (vx_MQ below (mQ G A (mRi P)) (mXC G A (fun _ _ _ => False)) args s b b A) (F0 m 28 ls [.int s2, .int s1, .ref s0]) := by
    intro k r M H locs ls a0 x1 x2 x3 s0 s1 s2 hk S hl h
    unfold wb_X4_curve_28 at h
    refine lv_iconst (v := 0) hx hb dX4_curve_28 (by decide) ?_
    obtain ⟨hI, h⟩ := h
    refine mm_V (As := [.int s1, .int s2, .int 0]) (rest := []) C S hl.1 (wk_X4_fails hst0 h) (T := TX4) rfl hI (lw_V q1836 q1838 qs22 q58 q1839) rfl pd_X4_fails ⟨Nat.le_of_ble_eq_true rfl, Nat.le_of_ble_eq_true rfl⟩ rfl rfl (Nat.le_of_ble_eq_true rfl) dX4_curve_29 rfl rfl hk (Nat.zero_add _) (fun v9 M7 H locs hP S hk => ?_) (fun E q ce M9 H9 locs9 hX => hX.elim)
    obtain ⟨v8, rfl, h⟩ := hP
    refine W.eq (g2 := F0 m 32 ls [.int v8]) rfl ?_
    refine lv_if_eq (tgt := 39) hx hb dX4_curve_32 (by decide) (fun c9 => ?_) (fun c9 => ?_)
    · have h := h.1 c9
      refine lv_aload_n hx hb dX4_curve_39 rfl (lv_at hl 0 rfl) ?_
      refine lv_iload_n hx hb dX4_curve_40 rfl (lv_at hl 1 rfl) ?_
      refine lv_iload_n hx hb dX4_curve_41 rfl (lv_at hl 2 rfl) ?_
      refine lv_iload_n hx hb dX4_curve_42 rfl (lv_at hl 3 rfl) ?_
      obtain ⟨hI, h⟩ := h
      refine mm_V (As := [.int x1, .int x2, .int x3]) (rest := []) C S hl.1 (wk_X4_curveOf hst0 h) (T := TX4) rfl hI (lw_V q2020 q2022 qs45 q58 q2023) rfl pd_X4_curveOf ⟨Nat.le_of_ble_eq_true rfl, Nat.le_of_ble_eq_true rfl⟩ rfl rfl (Nat.le_of_ble_eq_true rfl) dX4_curve_43 rfl rfl hk (Nat.zero_add _) (fun v9 M9 H locs hP S hk => ?_) (fun E q ce M9 H9 locs9 hX => hX.elim)
      obtain ⟨v10, rfl, h⟩ := hP
      refine W.eq (g2 := F0 m 46 ls [.int v10]) rfl ?_
      exact j46 _ _ _ _ _ _ _ hk S (lv_sub hl [] rfl) h
    · have h := h.2 c9
      refine lv_iconst (v := 0) hx hb dX4_curve_35 (by decide) ?_
      refine lv_goto (tgt := 46) hx hb dX4_curve_36 (by decide) ?_
      exact j46 _ _ _ _ _ _ _ hk S (lv_sub hl [] rfl) h
  have j23 : ∀ (k r : Nat) (M : mM) (H : Heap) (locs : List Loc) (ls : Array Slot) (a0 : Nat) (x1 : Int32) (x2 : Int32) (x3 : Int32) (s0 : Nat) (s1 : Int32), k + r ≤ b → mW G A s M H locs → lv_has ls 4 [(0, .ref a0), (1, .int x1), (2, .int x2), (3, .int x3)] → wb_X4_curve_23 G P r M a0 x1 x2 x3 s0 s1 → W p l e (mRm 16 b) s m args below meth c H locs k k (vx_MQ below (mQ G A (mRi P)) (mXC G A (fun _ _ _ => False)) args s b b A) (F0 m 23 ls [.int s1, .ref s0]) := by
    intro k r M H locs ls a0 x1 x2 x3 s0 s1 hk S hl h
    unfold wb_X4_curve_23 at h
    refine lv_iconst (v := 1) hx hb dX4_curve_23 (by decide) ?_
    refine lv_goto (tgt := 28) hx hb dX4_curve_24 (by decide) ?_
    exact j28 _ _ _ _ _ _ _ _ _ _ _ _ _ hk S hl h
  unfold wp_X4_curve at h
  refine lv_aload_n hx hb dX4_curve_0 rfl (lv_at hl 0 rfl) ?_
  refine lv_iload_n hx hb dX4_curve_1 rfl (lv_at hl 1 rfl) ?_
  refine mm_S (As := [.int x1]) (rest := [.ref a0]) C S hl.1 (wk_X4_noKind hst0 h) (lw_S q1856 q1857 q58 q1858) pd_X4_noKind ⟨Nat.le_of_ble_eq_true rfl, Nat.le_of_ble_eq_true rfl⟩ rfl rfl (Nat.le_of_ble_eq_true rfl) dX4_curve_2 rfl rfl hk (Nat.zero_add _) (fun v9 M1 H locs hP S hk => ?_) (fun E q ce M9 H9 locs9 hX => hX.elim)
  obtain ⟨v2, rfl, h⟩ := hP
  refine W.eq (g2 := F0 m 5 ls [.int v2, .ref a0]) rfl ?_
  refine lv_iload_n hx hb dX4_curve_5 rfl (lv_at hl 2 rfl) ?_
  refine lv_iconst (v := 0) hx hb dX4_curve_6 (by decide) ?_
  refine lv_iconst (v := 2) hx hb dX4_curve_7 (by decide) ?_
  refine mm_S (As := [.int x2, .int 0, .int 2]) (rest := [.int v2, .ref a0]) C S hl.1 (wk_X4_isIn hst0 h) (lw_S q1830 q1831 q58 q1832) pd_X4_isIn ⟨Nat.le_of_ble_eq_true rfl, Nat.le_of_ble_eq_true rfl⟩ rfl rfl (Nat.le_of_ble_eq_true rfl) dX4_curve_8 rfl rfl hk (Nat.zero_add _) (fun v9 M3 H locs hP S hk => ?_) (fun E q ce M9 H9 locs9 hX => hX.elim)
  obtain ⟨v4, rfl, h⟩ := hP
  refine W.eq (g2 := F0 m 11 ls [.int v4, .int v2, .ref a0]) rfl ?_
  refine lv_if_eq (tgt := 23) hx hb dX4_curve_11 (by decide) (fun c9 => ?_) (fun c9 => ?_)
  · have h := h.1 c9
    exact j23 _ _ _ _ _ _ _ _ _ _ _ _ hk S hl h
  · have h := h.2 c9
    refine lv_iload_n hx hb dX4_curve_14 rfl (lv_at hl 3 rfl) ?_
    refine lv_iconst (v := 0) hx hb dX4_curve_15 (by decide) ?_
    refine lv_iconst (v := 3) hx hb dX4_curve_16 (by decide) ?_
    refine mm_S (As := [.int x3, .int 0, .int 3]) (rest := [.int v2, .ref a0]) C S hl.1 (wk_X4_isIn hst0 h) (lw_S q1830 q1831 q58 q1832) pd_X4_isIn ⟨Nat.le_of_ble_eq_true rfl, Nat.le_of_ble_eq_true rfl⟩ rfl rfl (Nat.le_of_ble_eq_true rfl) dX4_curve_17 rfl rfl hk (Nat.zero_add _) (fun v9 M5 H locs hP S hk => ?_) (fun E q ce M9 H9 locs9 hX => hX.elim)
    obtain ⟨v6, rfl, h⟩ := hP
    refine W.eq (g2 := F0 m 20 ls [.int v6, .int v2, .ref a0]) rfl ?_
    refine lv_if_ne (tgt := 27) hx hb dX4_curve_20 (by decide) (fun c9 => ?_) (fun c9 => ?_)
    · have h := h.1 c9
      refine lv_iconst (v := 0) hx hb dX4_curve_27 (by decide) ?_
      exact j28 _ _ _ _ _ _ _ _ _ _ _ _ _ hk S hl h
    · have h := h.2 c9
      exact j23 _ _ _ _ _ _ _ _ _ _ _ _ hk S hl h
/-! X4_doneShare: level 10 -/
def wb_X4_doneShare_55 (G : mG) (P : UInt32 → mM → Prop) (r : Nat) (M : mM) (s0 : UInt32) : Prop :=
  P s0 M
def wb_X4_doneShare_30 (G : mG) (P : UInt32 → mM → Prop) (K9 : Nat → mM → Nat → Int32 → Int32 → Prop) (r : Nat) (M : mM) (a0 : Nat) (x1 : Int32) (x2 : Int32) : Prop :=
  K9 r M a0 x1 (x2 + 1)
def wl_X4_doneShare_9 (G : mG) (P : UInt32 → mM → Prop) : Nat → Nat → mM → Nat → Int32 → Int32 → Prop
  | 0, _, _, _, _, _ => False
  | n + 1, r, M, a0, x1, x2 => gfi M a0 3 28 fun v2 => (v2 ≤ x2 → gfi M a0 3 28 fun v3 => (¬ v3 = 0 → gfi M a0 3 28 fun v4 => vf_n32 (FP.fdiv (FP.i2f x1) (FP.i2f v4)) ∧ (wb_X4_doneShare_55 G P r M (FP.fdiv (FP.i2f x1) (FP.i2f v4)))) ∧ (v3 = 0 → wb_X4_doneShare_55 G P r M FP.fconst0)) ∧ (¬ v2 ≤ x2 → gfa M a0 3 34 fun u5 => ldi M 0 u5 x2 fun v6 => (¬ v6 = 1 → wb_X4_doneShare_30 G P (wl_X4_doneShare_9 G P n) r M a0 x1 x2) ∧ (v6 = 1 → wb_X4_doneShare_30 G P (wl_X4_doneShare_9 G P n) r M a0 (x1 + 1) x2))
def wp_X4_doneShare (G : mG) (b : Nat) (P : UInt32 → mM → Prop) (M : mM) (a0 : Nat) : Prop :=
  pfi M a0 3 0 0 fun M1 => ∃ n9, wl_X4_doneShare_9 G P n9 b M1 a0 0 0
set_option maxHeartbeats 4000000 in
set_option maxRecDepth 100000 in
theorem wk_X4_doneShare {l : Launch} (hst0 : l.stackTraces = false) {G : mG} {b : Nat} {P : UInt32 → mM → Prop} {M : mM} {a0 : Nat} (h : wp_X4_doneShare G b P M a0) : mMet l yX4_doneShare (ws_ yX4_doneShare cX4_doneShare 3 (Option.some Jvm.ClassFile.FieldType.float)) 10 b G [.ref a0] M (mRf P) (fun _ _ _ => False) := by
  refine mm_met hst0 (by decide) (Nat.le_of_ble_eq_true rfl) ?_
  intro p e s m args below meth c ls C hr hnt hnm hl S
  have hl : lv_has ls 3 [(0, .ref a0)] := hl
  generalize mA M s.heap.size = A at C S ⊢
  have hx := C.hx
  have hb := C.hb
  have hk : 0 + b ≤ b := Nat.le_of_eq (Nat.zero_add b)
  have j55 : ∀ (k r : Nat) (M : mM) (H : Heap) (locs : List Loc) (ls : Array Slot) (s0 : UInt32), k + r ≤ b → mW G A s M H locs → lv_has ls 3 [] → wb_X4_doneShare_55 G P r M s0 → W p l e (mRm 10 b) s m args below meth c H locs k k (vx_MQ below (mQ G A (mRf P)) (mXC G A (fun _ _ _ => False)) args s b b A) (F0 m 55 ls [.float s0]) := by
    intro k r M H locs ls s0 hk S hl h
    unfold wb_X4_doneShare_55 at h
    exact mm_fret C S hr (Nat.le_trans (Nat.le_add_right _ _) hk) dX4_doneShare_55 h
  have j9 : ∀ (nf : Nat) (k r : Nat) (M : mM) (H : Heap) (locs : List Loc) (ls : Array Slot) (a0 : Nat) (x1 : Int32) (x2 : Int32), k + r ≤ b → mW G A s M H locs → lv_has ls 3 [(0, .ref a0), (1, .int x1), (2, .int x2)] → wl_X4_doneShare_9 G P nf r M a0 x1 x2 → W p l e (mRm 10 b) s m args below meth c H locs k k (vx_MQ below (mQ G A (mRf P)) (mXC G A (fun _ _ _ => False)) args s b b A) (F0 m 9 ls []) := by
    intro nf
    induction nf with
    | zero =>
      intro k r M H locs ls a0 x1 x2 hk S hl h
      rw [wl_X4_doneShare_9] at h
      exact h.elim
    | succ n9 ih9 =>
      have j30 : ∀ (k r : Nat) (M : mM) (H : Heap) (locs : List Loc) (ls : Array Slot) (a0 : Nat) (x1 : Int32) (x2 : Int32), k + r ≤ b → mW G A s M H locs → lv_has ls 3 [(0, .ref a0), (1, .int x1), (2, .int x2)] → wb_X4_doneShare_30 G P (wl_X4_doneShare_9 G P n9) r M a0 x1 x2 → W p l e (mRm 10 b) s m args below meth c H locs k k (vx_MQ below (mQ G A (mRf P)) (mXC G A (fun _ _ _ => False)) args s b b A) (F0 m 30 ls []) := by
        intro k r M H locs ls a0 x1 x2 hk S hl h
        unfold wb_X4_doneShare_30 at h
        refine lv_iinc (v := (x2 + 1)) (lv' := [(2, .int (x2 + 1)), (0, .ref a0), (1, .int x1)]) hx hb dX4_doneShare_30 hl (k := 2) rfl rfl (by decide) rfl (fun ls hl => ?_)
        refine lv_goto (tgt := 9) hx hb dX4_doneShare_33 (by decide) ?_
        exact ih9 _ _ _ _ _ _ _ _ _ hk S (lv_sub hl [1, 2, 0] rfl) h
      intro k r M H locs ls a0 x1 x2 hk S hl h
      rw [wl_X4_doneShare_9] at h
      refine lv_iload_n hx hb dX4_doneShare_9 rfl (lv_at hl 2 rfl) ?_
      refine lv_aload_n hx hb dX4_doneShare_10 rfl (lv_at hl 0 rfl) ?_
      refine mm_gfi C S (ci := 3) (k := 28) rfl in_X4 (by decide) q1698 (fun _ h9 => h9) dX4_doneShare_11 h (fun v2 h => ?_)
      refine lv_icmp_ge (tgt := 36) hx hb dX4_doneShare_14 (by decide) (fun c9 => ?_) (fun c9 => ?_)
      · have h := h.1 c9
        refine lv_aload_n hx hb dX4_doneShare_36 rfl (lv_at hl 0 rfl) ?_
        refine mm_gfi C S (ci := 3) (k := 28) rfl in_X4 (by decide) q1698 (fun _ h9 => h9) dX4_doneShare_37 h (fun v3 h => ?_)
        refine lv_if_ne (tgt := 47) hx hb dX4_doneShare_40 (by decide) (fun c9 => ?_) (fun c9 => ?_)
        · have h := h.1 c9
          refine lv_iload_n hx hb dX4_doneShare_47 rfl (lv_at hl 1 rfl) ?_
          refine lv_i2f hx hb dX4_doneShare_48 ?_
          refine lv_aload_n hx hb dX4_doneShare_49 rfl (lv_at hl 0 rfl) ?_
          refine mm_gfi C S (ci := 3) (k := 28) rfl in_X4 (by decide) q1698 (fun _ h9 => h9) dX4_doneShare_50 h (fun v4 h => ?_)
          refine lv_i2f hx hb dX4_doneShare_53 ?_
          refine lv_fdiv hx hb dX4_doneShare_54 h.1 ?_
          have h := h.2
          exact j55 _ _ _ _ _ _ _ hk S (lv_sub hl [] rfl) h
        · have h := h.2 c9
          refine lv_fconst0 hx hb dX4_doneShare_43 ?_
          refine lv_goto (tgt := 55) hx hb dX4_doneShare_44 (by decide) ?_
          exact j55 _ _ _ _ _ _ _ hk S (lv_sub hl [] rfl) h
      · have h := h.2 c9
        refine lv_aload_n hx hb dX4_doneShare_17 rfl (lv_at hl 0 rfl) ?_
        refine mm_gfa C S (ci := 3) (k := 34) rfl in_X4 (by decide) q1704 (fun _ h9 => h9) dX4_doneShare_18 h (fun u5 h => ?_)
        refine lv_iload_n hx hb dX4_doneShare_21 rfl (lv_at hl 2 rfl) ?_
        refine mm_iald C S h dX4_doneShare_22 (fun v6 h => ?_)
        refine lv_iconst (v := 1) hx hb dX4_doneShare_23 (by decide) ?_
        refine lv_icmp_ne (tgt := 30) hx hb dX4_doneShare_24 (by decide) (fun c9 => ?_) (fun c9 => ?_)
        · have h := h.1 c9
          exact j30 _ _ _ _ _ _ _ _ _ hk S hl h
        · have h := h.2 c9
          refine lv_iinc (v := (x1 + 1)) (lv' := [(1, .int (x1 + 1)), (0, .ref a0), (2, .int x2)]) hx hb dX4_doneShare_27 hl (k := 1) rfl rfl (by decide) rfl (fun ls hl => ?_)
          exact j30 _ _ _ _ _ _ _ _ _ hk S (lv_sub hl [1, 0, 2] rfl) h
  unfold wp_X4_doneShare at h
  refine lv_aload_n hx hb dX4_doneShare_0 rfl (lv_at hl 0 rfl) ?_
  refine lv_iconst (v := 0) hx hb dX4_doneShare_1 (by decide) ?_
  refine mm_pfi C S (ci := 3) (k := 0) rfl in_X4 tyX4_ok nmX4 (by decide) q1670 (fun _ h9 => h9) rfl dX4_doneShare_2 rfl h (fun M1 H locs h S => ?_)
  refine lv_iconst (v := 0) hx hb dX4_doneShare_5 (by decide) ?_
  refine lv_istore_n (lv' := [(1, .int 0), (0, .ref a0)]) hx hb dX4_doneShare_6 rfl hl (by decide) rfl (fun ls hl => ?_)
  refine lv_iconst (v := 0) hx hb dX4_doneShare_7 (by decide) ?_
  refine lv_istore_n (lv' := [(2, .int 0), (1, .int 0), (0, .ref a0)]) hx hb dX4_doneShare_8 rfl hl (by decide) rfl (fun ls hl => ?_)
  obtain ⟨nf, h⟩ := h
  exact j9 nf _ _ _ _ _ _ _ _ _ hk S (lv_sub hl [2, 1, 0] rfl) h
/-! X4_find: level 10 -/
def wb_X4_find_140 (G : mG) (P : Int32 → mM → Prop) (K6 : Nat → mM → Nat → Int32 → Int32 → Int32 → Int32 → Int32 → Prop) (r : Nat) (M : mM) (a0 : Nat) (x1 : Int32) (x2 : Int32) (x3 : Int32) (x4 : Int32) (x5 : Int32) (x8 : Int32) (s0 : Nat) (s1 : Int32) : Prop :=
  pfi M s0 3 48 s1 fun M17 => K6 r M17 a0 x1 x2 x3 (x4 ||| x8) (x5 + 1)
def wb_X4_find_102 (G : mG) (P : Int32 → mM → Prop) (K6 : Nat → mM → Nat → Int32 → Int32 → Int32 → Int32 → Int32 → Prop) (r : Nat) (M : mM) (a0 : Nat) (x1 : Int32) (x2 : Int32) (x3 : Int32) (x4 : Int32) (x5 : Int32) (x7 : Int32) (x8 : Int32) (x10 : Int32) (s0 : Nat) (s1 : Int32) : Prop :=
  pfi M s0 3 47 s1 fun M13 => (¬ x4 = 0 → (x8 = 0 → wb_X4_find_140 G P K6 r M13 a0 x1 x2 x3 x4 x5 x8 a0 x10) ∧ (¬ x8 = 0 → gfi M13 a0 3 47 fun v14 => ∀ g15 : Int32, g15 = (if x10 < x7 then x10 else x7) → ∀ g16 : Int32, g16 = (if v14 < g15 then g15 else v14) → wb_X4_find_140 G P K6 r M13 a0 x1 x2 x3 x4 x5 x8 a0 g16)) ∧ (x4 = 0 → wb_X4_find_140 G P K6 r M13 a0 x1 x2 x3 x4 x5 x8 a0 x7)
def wb_X4_find_54 (G : mG) (P : Int32 → mM → Prop) (K6 : Nat → mM → Nat → Int32 → Int32 → Int32 → Int32 → Int32 → Prop) (r : Nat) (M : mM) (a0 : Nat) (x1 : Int32) (x2 : Int32) (x3 : Int32) (x4 : Int32) (x5 : Int32) (x6 : Int32) (x7 : Int32) (s0 : Int32) : Prop :=
  gfi M a0 3 47 fun v10 => gfi M a0 3 48 fun v11 => (¬ x4 = 0 → (s0 = 0 → wb_X4_find_102 G P K6 r M a0 x1 x2 x3 x4 x5 x7 s0 ((2 * v11) + 1) a0 (v10 / 2)) ∧ (¬ s0 = 0 → ∀ g12 : Int32, g12 = (if x6 < (v10 / 2) then (v10 / 2) else x6) → wb_X4_find_102 G P K6 r M a0 x1 x2 x3 x4 x5 x7 s0 ((2 * v11) + 1) a0 g12)) ∧ (x4 = 0 → wb_X4_find_102 G P K6 r M a0 x1 x2 x3 x4 x5 x7 s0 ((2 * v11) + 1) a0 x6)
def wl_X4_find_6 (G : mG) (P : Int32 → mM → Prop) : Nat → Nat → mM → Nat → Int32 → Int32 → Int32 → Int32 → Int32 → Prop
  | 0, _, _, _, _, _, _, _, _ => False
  | n + 1, r, M, a0, x1, x2, x3, x4, x5 => (x3 < x5 → narrow .boolean (.int x4) = .int x4 ∧ P x4 M) ∧ (¬ x3 < x5 → gfa M a0 3 45 fun u1 => lda M 9 u1 x5 fun u2 => lda M 8 u2 x1 fun u3 => ldi M 0 u3 x2 fun v4 => gfa M a0 3 46 fun u5 => lda M 9 u5 x5 fun u6 => lda M 8 u6 x1 fun u7 => ldi M 0 u7 x2 fun v8 => ∀ g9 : Int32, g9 = (if v4 < v8 then v8 else v4) → (v4 = (-1) → wb_X4_find_54 G P (wl_X4_find_6 G P n) r M a0 x1 x2 x3 x4 x5 v4 g9 0) ∧ (¬ v4 = (-1) → wb_X4_find_54 G P (wl_X4_find_6 G P n) r M a0 x1 x2 x3 x4 x5 v4 g9 1))
def wp_X4_find (G : mG) (b : Nat) (P : Int32 → mM → Prop) (M : mM) (a0 : Nat) (x1 : Int32) (x2 : Int32) (x3 : Int32) : Prop :=
  ∃ n6, wl_X4_find_6 G P n6 b M a0 x1 x2 x3 0 0
set_option maxHeartbeats 4000000 in
set_option maxRecDepth 100000 in
theorem wk_X4_find {l : Launch} (hst0 : l.stackTraces = false) {G : mG} {b : Nat} {P : Int32 → mM → Prop} {M : mM} {a0 : Nat} {x1 : Int32} {x2 : Int32} {x3 : Int32} (h : wp_X4_find G b P M a0 x1 x2 x3) : mMet l yX4_find (ws_ yX4_find cX4_find 11 (Option.some Jvm.ClassFile.FieldType.boolean)) 10 b G [.ref a0, .int x1, .int x2, .int x3] M (mRi P) (fun _ _ _ => False) := by
  refine mm_met hst0 (by decide) (Nat.le_of_ble_eq_true rfl) ?_
  intro p e s m args below meth c ls C hr hnt hnm hl S
  have hl : lv_has ls 11 [(0, .ref a0), (1, .int x1), (2, .int x2), (3, .int x3)] := hl
  generalize mA M s.heap.size = A at C S ⊢
  have hx := C.hx
  have hb := C.hb
  have hk : 0 + b ≤ b := Nat.le_of_eq (Nat.zero_add b)
  have j6 : ∀ (nf : Nat) (k r : Nat) (M : mM) (H : Heap) (locs : List Loc) (ls : Array Slot) (a0 : Nat) (x1 : Int32) (x2 : Int32) (x3 : Int32) (x4 : Int32) (x5 : Int32), k + r ≤ b → mW G A s M H locs → lv_has ls 11 [(0, .ref a0), (1, .int x1), (2, .int x2), (3, .int x3), (4, .int x4), (5, .int x5)] → wl_X4_find_6 G P nf r M a0 x1 x2 x3 x4 x5 → W p l e (mRm 10 b) s m args below meth c H locs k k (vx_MQ below (mQ G A (mRi P)) (mXC G A (fun _ _ _ => False)) args s b b A) (F0 m 6 ls []) := by
    intro nf
    induction nf with
    | zero =>
      intro k r M H locs ls a0 x1 x2 x3 x4 x5 hk S hl h
      rw [wl_X4_find_6] at h
      exact h.elim
    | succ n6 ih6 =>
      have j140 : ∀ (k r : Nat) (M : mM) (H : Heap) (locs : List Loc) (ls : Array Slot) (a0 : Nat) (x1 : Int32) (x2 : Int32) (x3 : Int32) (x4 : Int32) (x5 : Int32) (x8 : Int32) (s0 : Nat) (s1 : Int32), k + r ≤ b → mW G A s M H locs → lv_has ls 11 [(0, .ref a0), (1, .int x1), (2, .int x2), (3, .int x3), (4, .int x4), (5, .int x5), (8, .int x8)] → wb_X4_find_140 G P (wl_X4_find_6 G P n6) r M a0 x1 x2 x3 x4 x5 x8 s0 s1 → W p l e (mRm 10 b) s m args below meth c H locs k k (vx_MQ below (mQ G A (mRi P)) (mXC G A (fun _ _ _ => False)) args s b b A) (F0 m 140 ls [.int s1, .ref s0]) := by
        intro k r M H locs ls a0 x1 x2 x3 x4 x5 x8 s0 s1 hk S hl h
        unfold wb_X4_find_140 at h
        refine mm_pfi C S (ci := 3) (k := 48) rfl in_X4 tyX4_ok nmX4 (by decide) q1718 (fun _ h9 => h9) rfl dX4_find_140 rfl h (fun M17 H locs h S => ?_)
        refine lv_iload hx hb dX4_find_143 (lv_at hl 4 rfl) ?_
        refine lv_iload hx hb dX4_find_145 (lv_at hl 6 rfl) ?_
        refine lv_ior hx hb dX4_find_147 ?_
        refine lv_istore (lv' := [(4, .int (x4 ||| x8)), (0, .ref a0), (1, .int x1), (2, .int x2), (3, .int x3), (5, .int x5), (8, .int x8)]) hx hb dX4_find_148 hl (by decide) rfl (fun ls hl => ?_)
        refine lv_iinc (v := (x5 + 1)) (lv' := [(5, .int (x5 + 1)), (4, .int (x4 ||| x8)), (0, .ref a0), (1, .int x1), (2, .int x2), (3, .int x3), (8, .int x8)]) hx hb dX4_find_150 hl (k := 5) rfl rfl (by decide) rfl (fun ls hl => ?_)
        refine lv_goto (tgt := 6) hx hb dX4_find_153 (by decide) ?_
        exact ih6 _ _ _ _ _ _ _ _ _ _ _ _ hk S (lv_sub hl [2, 3, 4, 5, 1, 0] rfl) h
      have j102 : ∀ (k r : Nat) (M : mM) (H : Heap) (locs : List Loc) (ls : Array Slot) (a0 : Nat) (x1 : Int32) (x2 : Int32) (x3 : Int32) (x4 : Int32) (x5 : Int32) (x7 : Int32) (x8 : Int32) (x10 : Int32) (s0 : Nat) (s1 : Int32), k + r ≤ b → mW G A s M H locs → lv_has ls 11 [(0, .ref a0), (1, .int x1), (2, .int x2), (3, .int x3), (4, .int x4), (5, .int x5), (7, .int x7), (8, .int x8), (10, .int x10)] → wb_X4_find_102 G P (wl_X4_find_6 G P n6) r M a0 x1 x2 x3 x4 x5 x7 x8 x10 s0 s1 → W p l e (mRm 10 b) s m args below meth c H locs k k (vx_MQ below (mQ G A (mRi P)) (mXC G A (fun _ _ _ => False)) args s b b A) (F0 m 102 ls [.int s1, .ref s0]) := by
        intro k r M H locs ls a0 x1 x2 x3 x4 x5 x7 x8 x10 s0 s1 hk S hl h
        unfold wb_X4_find_102 at h
        refine mm_pfi C S (ci := 3) (k := 47) rfl in_X4 tyX4_ok nmX4 (by decide) q1717 (fun _ h9 => h9) rfl dX4_find_102 rfl h (fun M13 H locs h S => ?_)
        refine lv_aload_n hx hb dX4_find_105 rfl (lv_at hl 0 rfl) ?_
        refine lv_iload hx hb dX4_find_106 (lv_at hl 4 rfl) ?_
        refine lv_if_ne (tgt := 116) hx hb dX4_find_108 (by decide) (fun c9 => ?_) (fun c9 => ?_)
        · have h := h.1 c9
          refine lv_iload hx hb dX4_find_116 (lv_at hl 7 rfl) ?_
          refine lv_if_eq (tgt := 138) hx hb dX4_find_118 (by decide) (fun c9 => ?_) (fun c9 => ?_)
          · have h := h.1 c9
            refine lv_iload hx hb dX4_find_138 (lv_at hl 8 rfl) ?_
            exact j140 _ _ _ _ _ _ _ _ _ _ _ _ _ _ _ hk S (lv_sub hl [0, 1, 2, 3, 4, 5, 7] rfl) h
          · have h := h.2 c9
            refine lv_aload_n hx hb dX4_find_121 rfl (lv_at hl 0 rfl) ?_
            refine mm_gfi C S (ci := 3) (k := 47) rfl in_X4 (by decide) q1717 (fun _ h9 => h9) dX4_find_122 h (fun v14 h => ?_)
            refine lv_iload hx hb dX4_find_125 (lv_at hl 6 rfl) ?_
            refine lv_iload hx hb dX4_find_127 (lv_at hl 8 rfl) ?_
            refine mm_min C hl.1 q1879 q331 q68 q332 (Nat.le_of_ble_eq_true rfl) (Nat.le_of_ble_eq_true rfl) (Nat.le_trans (Nat.le_add_right _ _) hk) (Nat.le_trans (Nat.le_add_right _ _) hk) dX4_find_129 ?_
            refine lv_topi (fun g15 eg15 => ?_)
            have h := h g15 eg15
            refine mm_max C hl.1 q1880 q328 q68 q329 (Nat.le_of_ble_eq_true rfl) (Nat.le_of_ble_eq_true rfl) (Nat.le_trans (Nat.le_add_right _ _) hk) (Nat.le_trans (Nat.le_add_right _ _) hk) dX4_find_132 ?_
            refine lv_topi (fun g16 eg16 => ?_)
            have h := h g16 eg16
            refine lv_goto (tgt := 140) hx hb dX4_find_135 (by decide) ?_
            exact j140 _ _ _ _ _ _ _ _ _ _ _ _ _ _ _ hk S (lv_sub hl [0, 1, 2, 3, 4, 5, 7] rfl) h
        · have h := h.2 c9
          refine lv_iload hx hb dX4_find_111 (lv_at hl 6 rfl) ?_
          refine lv_goto (tgt := 140) hx hb dX4_find_113 (by decide) ?_
          exact j140 _ _ _ _ _ _ _ _ _ _ _ _ _ _ _ hk S (lv_sub hl [0, 1, 2, 3, 4, 5, 7] rfl) h
      have j54 : ∀ (k r : Nat) (M : mM) (H : Heap) (locs : List Loc) (ls : Array Slot) (a0 : Nat) (x1 : Int32) (x2 : Int32) (x3 : Int32) (x4 : Int32) (x5 : Int32) (x6 : Int32) (x7 : Int32) (s0 : Int32), k + r ≤ b → mW G A s M H locs → lv_has ls 11 [(0, .ref a0), (1, .int x1), (2, .int x2), (3, .int x3), (4, .int x4), (5, .int x5), (6, .int x6), (7, .int x7)] → wb_X4_find_54 G P (wl_X4_find_6 G P n6) r M a0 x1 x2 x3 x4 x5 x6 x7 s0 → W p l e (mRm 10 b) s m args below meth c H locs k k (vx_MQ below (mQ G A (mRi P)) (mXC G A (fun _ _ _ => False)) args s b b A) (F0 m 54 ls [.int s0]) := by
        intro k r M H locs ls a0 x1 x2 x3 x4 x5 x6 x7 s0 hk S hl h
        unfold wb_X4_find_54 at h
        refine lv_istore (lv' := [(8, .int s0), (0, .ref a0), (1, .int x1), (2, .int x2), (3, .int x3), (4, .int x4), (5, .int x5), (6, .int x6), (7, .int x7)]) hx hb dX4_find_54 hl (by decide) rfl (fun ls hl => ?_)
        refine lv_aload_n hx hb dX4_find_56 rfl (lv_at hl 1 rfl) ?_
        refine mm_gfi C S (ci := 3) (k := 47) rfl in_X4 (by decide) q1717 (fun _ h9 => h9) dX4_find_57 h (fun v10 h => ?_)
        refine lv_iconst (v := 2) hx hb dX4_find_60 (by decide) ?_
        refine lv_idiv hx hb dX4_find_61 (by decide) ?_
        refine lv_istore (lv' := [(9, .int (v10 / 2)), (8, .int s0), (0, .ref a0), (1, .int x1), (2, .int x2), (3, .int x3), (4, .int x4), (5, .int x5), (6, .int x6), (7, .int x7)]) hx hb dX4_find_62 hl (by decide) rfl (fun ls hl => ?_)
        refine lv_iconst (v := 2) hx hb dX4_find_64 (by decide) ?_
        refine lv_aload_n hx hb dX4_find_65 rfl (lv_at hl 2 rfl) ?_
        refine mm_gfi C S (ci := 3) (k := 48) rfl in_X4 (by decide) q1718 (fun _ h9 => h9) dX4_find_66 h (fun v11 h => ?_)
        refine lv_imul hx hb dX4_find_69 ?_
        refine lv_iconst (v := 1) hx hb dX4_find_70 (by decide) ?_
        refine lv_iadd hx hb dX4_find_71 ?_
        refine lv_istore (lv' := [(10, .int ((2 * v11) + 1)), (9, .int (v10 / 2)), (8, .int s0), (0, .ref a0), (1, .int x1), (2, .int x2), (3, .int x3), (4, .int x4), (5, .int x5), (6, .int x6), (7, .int x7)]) hx hb dX4_find_72 hl (by decide) rfl (fun ls hl => ?_)
        refine lv_aload_n hx hb dX4_find_74 rfl (lv_at hl 3 rfl) ?_
        refine lv_iload hx hb dX4_find_75 (lv_at hl 7 rfl) ?_
        refine lv_if_ne (tgt := 85) hx hb dX4_find_77 (by decide) (fun c9 => ?_) (fun c9 => ?_)
        · have h := h.1 c9
          refine lv_iload hx hb dX4_find_85 (lv_at hl 2 rfl) ?_
          refine lv_if_eq (tgt := 100) hx hb dX4_find_87 (by decide) (fun c9 => ?_) (fun c9 => ?_)
          · have h := h.1 c9
            refine lv_iload hx hb dX4_find_100 (lv_at hl 1 rfl) ?_
            exact j102 _ _ _ _ _ _ _ _ _ _ _ _ _ _ _ _ _ hk S (lv_sub hl [3, 4, 5, 6, 7, 8, 10, 2, 0] rfl) h
          · have h := h.2 c9
            refine lv_iload hx hb dX4_find_90 (lv_at hl 9 rfl) ?_
            refine lv_iload hx hb dX4_find_92 (lv_at hl 1 rfl) ?_
            refine mm_max C hl.1 q1880 q328 q68 q329 (Nat.le_of_ble_eq_true rfl) (Nat.le_of_ble_eq_true rfl) (Nat.le_trans (Nat.le_add_right _ _) hk) (Nat.le_trans (Nat.le_add_right _ _) hk) dX4_find_94 ?_
            refine lv_topi (fun g12 eg12 => ?_)
            have h := h g12 eg12
            refine lv_goto (tgt := 102) hx hb dX4_find_97 (by decide) ?_
            exact j102 _ _ _ _ _ _ _ _ _ _ _ _ _ _ _ _ _ hk S (lv_sub hl [3, 4, 5, 6, 7, 8, 10, 2, 0] rfl) h
        · have h := h.2 c9
          refine lv_iload hx hb dX4_find_80 (lv_at hl 9 rfl) ?_
          refine lv_goto (tgt := 102) hx hb dX4_find_82 (by decide) ?_
          exact j102 _ _ _ _ _ _ _ _ _ _ _ _ _ _ _ _ _ hk S (lv_sub hl [3, 4, 5, 6, 7, 8, 10, 2, 0] rfl) h
      intro k r M H locs ls a0 x1 x2 x3 x4 x5 hk S hl h
      rw [wl_X4_find_6] at h
      refine lv_iload hx hb dX4_find_6 (lv_at hl 5 rfl) ?_
      refine lv_iload_n hx hb dX4_find_8 rfl (lv_at hl 3 rfl) ?_
      refine lv_icmp_gt (tgt := 156) hx hb dX4_find_9 (by decide) (fun c9 => ?_) (fun c9 => ?_)
      · have h := h.1 c9
        refine lv_iload hx hb dX4_find_156 (lv_at hl 4 rfl) ?_
        exact mm_zret C S hr (Nat.le_trans (Nat.le_add_right _ _) hk) dX4_find_158 h
      · have h := h.2 c9
        refine lv_aload_n hx hb dX4_find_12 rfl (lv_at hl 0 rfl) ?_
        refine mm_gfa C S (ci := 3) (k := 45) rfl in_X4 (by decide) q1715 (fun _ h9 => h9) dX4_find_13 h (fun u1 h => ?_)
        refine lv_iload hx hb dX4_find_16 (lv_at hl 5 rfl) ?_
        refine mm_aald C S (t := 9) rfl rfl h dX4_find_18 (fun u2 h => ?_)
        refine lv_iload_n hx hb dX4_find_19 rfl (lv_at hl 1 rfl) ?_
        refine mm_aald C S (t := 8) rfl rfl h dX4_find_20 (fun u3 h => ?_)
        refine lv_iload_n hx hb dX4_find_21 rfl (lv_at hl 2 rfl) ?_
        refine mm_iald C S h dX4_find_22 (fun v4 h => ?_)
        refine lv_istore (lv' := [(6, .int v4), (0, .ref a0), (1, .int x1), (2, .int x2), (3, .int x3), (4, .int x4), (5, .int x5)]) hx hb dX4_find_23 hl (by decide) rfl (fun ls hl => ?_)
        refine lv_iload hx hb dX4_find_25 (lv_at hl 0 rfl) ?_
        refine lv_aload_n hx hb dX4_find_27 rfl (lv_at hl 1 rfl) ?_
        refine mm_gfa C S (ci := 3) (k := 46) rfl in_X4 (by decide) q1716 (fun _ h9 => h9) dX4_find_28 h (fun u5 h => ?_)
        refine lv_iload hx hb dX4_find_31 (lv_at hl 6 rfl) ?_
        refine mm_aald C S (t := 9) rfl rfl h dX4_find_33 (fun u6 h => ?_)
        refine lv_iload_n hx hb dX4_find_34 rfl (lv_at hl 2 rfl) ?_
        refine mm_aald C S (t := 8) rfl rfl h dX4_find_35 (fun u7 h => ?_)
        refine lv_iload_n hx hb dX4_find_36 rfl (lv_at hl 3 rfl) ?_
        refine mm_iald C S h dX4_find_37 (fun v8 h => ?_)
        refine mm_max C hl.1 q1880 q328 q68 q329 (Nat.le_of_ble_eq_true rfl) (Nat.le_of_ble_eq_true rfl) (Nat.le_trans (Nat.le_add_right _ _) hk) (Nat.le_trans (Nat.le_add_right _ _) hk) dX4_find_38 ?_
        refine lv_topi (fun g9 eg9 => ?_)
        have h := h g9 eg9
        refine lv_istore (lv' := [(7, .int g9), (6, .int v4), (0, .ref a0), (1, .int x1), (2, .int x2), (3, .int x3), (4, .int x4), (5, .int x5)]) hx hb dX4_find_41 hl (by decide) rfl (fun ls hl => ?_)
        refine lv_iload hx hb dX4_find_43 (lv_at hl 1 rfl) ?_
        refine lv_iconst (v := (-1)) hx hb dX4_find_45 (by decide) ?_
        refine lv_icmp_eq (tgt := 53) hx hb dX4_find_46 (by decide) (fun c9 => ?_) (fun c9 => ?_)
        · have h := h.1 c9
          refine lv_iconst (v := 0) hx hb dX4_find_53 (by decide) ?_
          exact j54 _ _ _ _ _ _ _ _ _ _ _ _ _ _ _ hk S (lv_sub hl [2, 3, 4, 5, 6, 7, 1, 0] rfl) h
        · have h := h.2 c9
          refine lv_iconst (v := 1) hx hb dX4_find_49 (by decide) ?_
          refine lv_goto (tgt := 54) hx hb dX4_find_50 (by decide) ?_
          exact j54 _ _ _ _ _ _ _ _ _ _ _ _ _ _ _ hk S (lv_sub hl [2, 3, 4, 5, 6, 7, 1, 0] rfl) h
  unfold wp_X4_find at h
  refine lv_iconst (v := 0) hx hb dX4_find_0 (by decide) ?_
  refine lv_istore (lv' := [(4, .int 0), (0, .ref a0), (1, .int x1), (2, .int x2), (3, .int x3)]) hx hb dX4_find_1 hl (by decide) rfl (fun ls hl => ?_)
  refine lv_iconst (v := 0) hx hb dX4_find_3 (by decide) ?_
  refine lv_istore (lv' := [(5, .int 0), (4, .int 0), (0, .ref a0), (1, .int x1), (2, .int x2), (3, .int x3)]) hx hb dX4_find_4 hl (by decide) rfl (fun ls hl => ?_)
  obtain ⟨nf, h⟩ := h
  exact j6 nf _ _ _ _ _ _ _ _ _ _ _ _ hk S (lv_sub hl [2, 3, 4, 5, 1, 0] rfl) h
/-! X4_doubt: level 11 -/
def wb_X4_doubt_27 (G : mG) (P : Int32 → mM → Prop) (r : Nat) (M : mM) (s0 : Int32) : Prop :=
  P s0 M
def wp_X4_doubt (G : mG) (b : Nat) (P : Int32 → mM → Prop) (M : mM) (a0 : Nat) (x1 : Int32) (x2 : Int32) : Prop :=
  gfi M a0 3 2 fun v1 => isc M a0 3 ∧ (wp_X4_find G 0 (fun v3 M2 => (v3 = 0 → wb_X4_doubt_27 G P b M2 20) ∧ (¬ v3 = 0 → gfi M2 a0 3 48 fun v4 => gfi M2 a0 3 47 fun v5 => wb_X4_doubt_27 G P b M2 (v4 - v5))) M a0 x1 x2 v1)
set_option maxHeartbeats 4000000 in
set_option maxRecDepth 100000 in
theorem wk_X4_doubt {l : Launch} (hst0 : l.stackTraces = false) {G : mG} {b : Nat} {P : Int32 → mM → Prop} {M : mM} {a0 : Nat} {x1 : Int32} {x2 : Int32} (h : wp_X4_doubt G b P M a0 x1 x2) : mMet l yX4_doubt (ws_ yX4_doubt cX4_doubt 3 (Option.some Jvm.ClassFile.FieldType.int)) 11 b G [.ref a0, .int x1, .int x2] M (mRi P) (fun _ _ _ => False) := by
  refine mm_met hst0 (by decide) (Nat.le_of_ble_eq_true rfl) ?_
  intro p e s m args below meth c ls C hr hnt hnm hl S
  have hl : lv_has ls 3 [(0, .ref a0), (1, .int x1), (2, .int x2)] := hl
  generalize mA M s.heap.size = A at C S ⊢
  have hx := C.hx
  have hb := C.hb
  have hk : 0 + b ≤ b := Nat.le_of_eq (Nat.zero_add b)
  have j27 : ∀ (k r : Nat) (M : mM) (H : Heap) (locs : List Loc) (ls : Array Slot) (s0 : Int32), k + r ≤ b → mW G A s M H locs → lv_has ls 3 [] → wb_X4_doubt_27 G P r M s0 → W p l e (mRm 11 b) s m args below meth c H locs k k (vx_MQ below (mQ G A (mRi P)) (mXC G A (fun _ _ _ => False)) args s b b A) (F0 m 27 ls [.int s0]) := by
    intro k r M H locs ls s0 hk S hl h
    unfold wb_X4_doubt_27 at h
    exact mm_iret C S hr (Nat.le_trans (Nat.le_add_right _ _) hk) dX4_doubt_27 h
  unfold wp_X4_doubt at h
  refine lv_aload_n hx hb dX4_doubt_0 rfl (lv_at hl 0 rfl) ?_
  refine lv_iload_n hx hb dX4_doubt_1 rfl (lv_at hl 1 rfl) ?_
  refine lv_iload_n hx hb dX4_doubt_2 rfl (lv_at hl 2 rfl) ?_
  refine lv_aload_n hx hb dX4_doubt_3 rfl (lv_at hl 0 rfl) ?_
  refine mm_gfi C S (ci := 3) (k := 2) rfl in_X4 (by decide) q1672 (fun _ h9 => h9) dX4_doubt_4 h (fun v1 h => ?_)
  obtain ⟨hI, h⟩ := h
  refine mm_V (As := [.int x1, .int x2, .int v1]) (rest := []) C S hl.1 (wk_X4_find hst0 h) (T := TX4) rfl hI (lw_V q1973 q1975 qs39 q58 q1976) rfl pd_X4_find ⟨Nat.le_of_ble_eq_true rfl, Nat.le_of_ble_eq_true rfl⟩ rfl rfl (Nat.le_of_ble_eq_true rfl) dX4_doubt_7 rfl rfl hk (Nat.zero_add _) (fun v9 M2 H locs hP S hk => ?_) (fun E q ce M9 H9 locs9 hX => hX.elim)
  obtain ⟨v3, rfl, h⟩ := hP
  refine W.eq (g2 := F0 m 10 ls [.int v3]) rfl ?_
  refine lv_if_eq (tgt := 25) hx hb dX4_doubt_10 (by decide) (fun c9 => ?_) (fun c9 => ?_)
  · have h := h.1 c9
    refine lv_bipush (v := 20) hx hb dX4_doubt_25 (by decide) ?_
    exact j27 _ _ _ _ _ _ _ hk S (lv_sub hl [] rfl) h
  · have h := h.2 c9
    refine lv_aload_n hx hb dX4_doubt_13 rfl (lv_at hl 0 rfl) ?_
    refine mm_gfi C S (ci := 3) (k := 48) rfl in_X4 (by decide) q1718 (fun _ h9 => h9) dX4_doubt_14 h (fun v4 h => ?_)
    refine lv_aload_n hx hb dX4_doubt_17 rfl (lv_at hl 0 rfl) ?_
    refine mm_gfi C S (ci := 3) (k := 47) rfl in_X4 (by decide) q1717 (fun _ h9 => h9) dX4_doubt_18 h (fun v5 h => ?_)
    refine lv_isub hx hb dX4_doubt_21 ?_
    refine lv_goto (tgt := 27) hx hb dX4_doubt_22 (by decide) ?_
    exact j27 _ _ _ _ _ _ _ hk S (lv_sub hl [] rfl) h
/-! X4_noWalk: level 11 -/
def wb_X4_noWalk_19 (G : mG) (P : Int32 → mM → Prop) (r : Nat) (M : mM) (s0 : Int32) : Prop :=
  narrow .boolean (.int s0) = .int s0 ∧ P s0 M
def wp_X4_noWalk (G : mG) (b : Nat) (P : Int32 → mM → Prop) (M : mM) (a0 : Nat) (x1 : Int32) : Prop :=
  gfi M a0 3 28 fun v1 => wp_X4_isIn G 0 (fun v3 M2 => (¬ v3 = 0 → wb_X4_noWalk_19 G P b M2 0) ∧ (v3 = 0 → wb_X4_noWalk_19 G P b M2 1)) M x1 0 (v1 - 1)
set_option maxHeartbeats 4000000 in
set_option maxRecDepth 100000 in
theorem wk_X4_noWalk {l : Launch} (hst0 : l.stackTraces = false) {G : mG} {b : Nat} {P : Int32 → mM → Prop} {M : mM} {a0 : Nat} {x1 : Int32} (h : wp_X4_noWalk G b P M a0 x1) : mMet l yX4_noWalk (ws_ yX4_noWalk cX4_noWalk 2 (Option.some Jvm.ClassFile.FieldType.boolean)) 11 b G [.ref a0, .int x1] M (mRi P) (fun _ _ _ => False) := by
  refine mm_met hst0 (by decide) (Nat.le_of_ble_eq_true rfl) ?_
  intro p e s m args below meth c ls C hr hnt hnm hl S
  have hl : lv_has ls 2 [(0, .ref a0), (1, .int x1)] := hl
  generalize mA M s.heap.size = A at C S ⊢
  have hx := C.hx
  have hb := C.hb
  have hk : 0 + b ≤ b := Nat.le_of_eq (Nat.zero_add b)
  have j19 : ∀ (k r : Nat) (M : mM) (H : Heap) (locs : List Loc) (ls : Array Slot) (s0 : Int32), k + r ≤ b → mW G A s M H locs → lv_has ls 2 [] → wb_X4_noWalk_19 G P r M s0 → W p l e (mRm 11 b) s m args below meth c H locs k k (vx_MQ below (mQ G A (mRi P)) (mXC G A (fun _ _ _ => False)) args s b b A) (F0 m 19 ls [.int s0]) := by
    intro k r M H locs ls s0 hk S hl h
    unfold wb_X4_noWalk_19 at h
    exact mm_zret C S hr (Nat.le_trans (Nat.le_add_right _ _) hk) dX4_noWalk_19 h
  unfold wp_X4_noWalk at h
  refine lv_iload_n hx hb dX4_noWalk_0 rfl (lv_at hl 1 rfl) ?_
  refine lv_iconst (v := 0) hx hb dX4_noWalk_1 (by decide) ?_
  refine lv_aload_n hx hb dX4_noWalk_2 rfl (lv_at hl 0 rfl) ?_
  refine mm_gfi C S (ci := 3) (k := 28) rfl in_X4 (by decide) q1698 (fun _ h9 => h9) dX4_noWalk_3 h (fun v1 h => ?_)
  refine lv_iconst (v := 1) hx hb dX4_noWalk_6 (by decide) ?_
  refine lv_isub hx hb dX4_noWalk_7 ?_
  refine mm_S (As := [.int x1, .int 0, .int (v1 - 1)]) (rest := []) C S hl.1 (wk_X4_isIn hst0 h) (lw_S q1830 q1831 q58 q1832) pd_X4_isIn ⟨Nat.le_of_ble_eq_true rfl, Nat.le_of_ble_eq_true rfl⟩ rfl rfl (Nat.le_of_ble_eq_true rfl) dX4_noWalk_8 rfl rfl hk (Nat.zero_add _) (fun v9 M2 H locs hP S hk => ?_) (fun E q ce M9 H9 locs9 hX => hX.elim)
  obtain ⟨v3, rfl, h⟩ := hP
  refine W.eq (g2 := F0 m 11 ls [.int v3]) rfl ?_
  refine lv_if_ne (tgt := 18) hx hb dX4_noWalk_11 (by decide) (fun c9 => ?_) (fun c9 => ?_)
  · have h := h.1 c9
    refine lv_iconst (v := 0) hx hb dX4_noWalk_18 (by decide) ?_
    exact j19 _ _ _ _ _ _ _ hk S (lv_sub hl [] rfl) h
  · have h := h.2 c9
    refine lv_iconst (v := 1) hx hb dX4_noWalk_14 (by decide) ?_
    refine lv_goto (tgt := 19) hx hb dX4_noWalk_15 (by decide) ?_
    exact j19 _ _ _ _ _ _ _ hk S (lv_sub hl [] rfl) h
/-! X4_saw: level 10 -/
def wb_X4_saw_79 (G : mG) (P : Int32 → mM → Prop) (K6 : Nat → mM → Nat → Int32 → Int32 → Int32 → Int32 → Int32 → Int32 → Prop) (r : Nat) (M : mM) (a0 : Nat) (x1 : Int32) (x2 : Int32) (x3 : Int32) (x4 : Int32) (x5 : Int32) (x6 : Int32) : Prop :=
  K6 r M a0 x1 x2 x3 x4 x5 (x6 + 1)
def wl_X4_saw_6 (G : mG) (P : Int32 → mM → Prop) : Nat → Nat → mM → Nat → Int32 → Int32 → Int32 → Int32 → Int32 → Int32 → Prop
  | 0, _, _, _, _, _, _, _, _, _ => False
  | n + 1, r, M, a0, x1, x2, x3, x4, x5, x6 => gfi M a0 3 28 fun v1 => (v1 ≤ x6 → P x5 M) ∧ (¬ v1 ≤ x6 → gfa M a0 3 30 fun u2 => ldi M 0 u2 x6 fun v3 => (¬ v3 = x1 → wb_X4_saw_79 G P (wl_X4_saw_6 G P n) r M a0 x1 x2 x3 x4 x5 x6) ∧ (v3 = x1 → gfa M a0 3 33 fun u4 => ldi M 0 u4 x6 fun v5 => (¬ v5 = x2 → wb_X4_saw_79 G P (wl_X4_saw_6 G P n) r M a0 x1 x2 x3 x4 x5 x6) ∧ (v5 = x2 → gfa M a0 3 34 fun u6 => ldi M 0 u6 x6 fun v7 => (¬ v7 = 1 → wb_X4_saw_79 G P (wl_X4_saw_6 G P n) r M a0 x1 x2 x3 x4 x5 x6) ∧ (v7 = 1 → gfa M a0 3 42 fun u8 => lda M 10 u8 x6 fun u9 => ldi M 1 u9 x3 fun v10 => (v10 = 0 → wb_X4_saw_79 G P (wl_X4_saw_6 G P n) r M a0 x1 x2 x3 x4 x5 x6) ∧ (¬ v10 = 0 → gfa M a0 3 41 fun u11 => lda M 9 u11 x6 fun u12 => lda M 8 u12 x3 fun u13 => ldi M 0 u13 x4 fun v14 => ∀ g15 : Int32, g15 = (if x5 < v14 then v14 else x5) → wb_X4_saw_79 G P (wl_X4_saw_6 G P n) r M a0 x1 x2 x3 x4 g15 x6)))))
def wp_X4_saw (G : mG) (b : Nat) (P : Int32 → mM → Prop) (M : mM) (a0 : Nat) (x1 : Int32) (x2 : Int32) (x3 : Int32) (x4 : Int32) : Prop :=
  ∃ n6, wl_X4_saw_6 G P n6 b M a0 x1 x2 x3 x4 (-1) 0
set_option maxHeartbeats 4000000 in
set_option maxRecDepth 100000 in
theorem wk_X4_saw {l : Launch} (hst0 : l.stackTraces = false) {G : mG} {b : Nat} {P : Int32 → mM → Prop} {M : mM} {a0 : Nat} {x1 : Int32} {x2 : Int32} {x3 : Int32} {x4 : Int32} (h : wp_X4_saw G b P M a0 x1 x2 x3 x4) : mMet l yX4_saw (ws_ yX4_saw cX4_saw 7 (Option.some Jvm.ClassFile.FieldType.int)) 10 b G [.ref a0, .int x1, .int x2, .int x3, .int x4] M (mRi P) (fun _ _ _ => False) := by
  refine mm_met hst0 (by decide) (Nat.le_of_ble_eq_true rfl) ?_
  intro p e s m args below meth c ls C hr hnt hnm hl S
  have hl : lv_has ls 7 [(0, .ref a0), (1, .int x1), (2, .int x2), (3, .int x3), (4, .int x4)] := hl
  generalize mA M s.heap.size = A at C S ⊢
  have hx := C.hx
  have hb := C.hb
  have hk : 0 + b ≤ b := Nat.le_of_eq (Nat.zero_add b)
  have j6 : ∀ (nf : Nat) (k r : Nat) (M : mM) (H : Heap) (locs : List Loc) (ls : Array Slot) (a0 : Nat) (x1 : Int32) (x2 : Int32) (x3 : Int32) (x4 : Int32) (x5 : Int32) (x6 : Int32), k + r ≤ b → mW G A s M H locs → lv_has ls 7 [(0, .ref a0), (1, .int x1), (2, .int x2), (3, .int x3), (4, .int x4), (5, .int x5), (6, .int x6)] → wl_X4_saw_6 G P nf r M a0 x1 x2 x3 x4 x5 x6 → W p l e (mRm 10 b) s m args below meth c H locs k k (vx_MQ below (mQ G A (mRi P)) (mXC G A (fun _ _ _ => False)) args s b b A) (F0 m 6 ls []) := by
    intro nf
    induction nf with
    | zero =>
      intro k r M H locs ls a0 x1 x2 x3 x4 x5 x6 hk S hl h
      rw [wl_X4_saw_6] at h
      exact h.elim
    | succ n6 ih6 =>
      have j79 : ∀ (k r : Nat) (M : mM) (H : Heap) (locs : List Loc) (ls : Array Slot) (a0 : Nat) (x1 : Int32) (x2 : Int32) (x3 : Int32) (x4 : Int32) (x5 : Int32) (x6 : Int32), k + r ≤ b → mW G A s M H locs → lv_has ls 7 [(0, .ref a0), (1, .int x1), (2, .int x2), (3, .int x3), (4, .int x4), (5, .int x5), (6, .int x6)] → wb_X4_saw_79 G P (wl_X4_saw_6 G P n6) r M a0 x1 x2 x3 x4 x5 x6 → W p l e (mRm 10 b) s m args below meth c H locs k k (vx_MQ below (mQ G A (mRi P)) (mXC G A (fun _ _ _ => False)) args s b b A) (F0 m 79 ls []) := by
        intro k r M H locs ls a0 x1 x2 x3 x4 x5 x6 hk S hl h
        unfold wb_X4_saw_79 at h
        refine lv_iinc (v := (x6 + 1)) (lv' := [(6, .int (x6 + 1)), (0, .ref a0), (1, .int x1), (2, .int x2), (3, .int x3), (4, .int x4), (5, .int x5)]) hx hb dX4_saw_79 hl (k := 6) rfl rfl (by decide) rfl (fun ls hl => ?_)
        refine lv_goto (tgt := 6) hx hb dX4_saw_82 (by decide) ?_
        exact ih6 _ _ _ _ _ _ _ _ _ _ _ _ _ hk S (lv_sub hl [1, 2, 3, 4, 5, 6, 0] rfl) h
      intro k r M H locs ls a0 x1 x2 x3 x4 x5 x6 hk S hl h
      rw [wl_X4_saw_6] at h
      refine lv_iload hx hb dX4_saw_6 (lv_at hl 6 rfl) ?_
      refine lv_aload_n hx hb dX4_saw_8 rfl (lv_at hl 0 rfl) ?_
      refine mm_gfi C S (ci := 3) (k := 28) rfl in_X4 (by decide) q1698 (fun _ h9 => h9) dX4_saw_9 h (fun v1 h => ?_)
      refine lv_icmp_ge (tgt := 85) hx hb dX4_saw_12 (by decide) (fun c9 => ?_) (fun c9 => ?_)
      · have h := h.1 c9
        refine lv_iload hx hb dX4_saw_85 (lv_at hl 5 rfl) ?_
        exact mm_iret C S hr (Nat.le_trans (Nat.le_add_right _ _) hk) dX4_saw_87 h
      · have h := h.2 c9
        refine lv_aload_n hx hb dX4_saw_15 rfl (lv_at hl 0 rfl) ?_
        refine mm_gfa C S (ci := 3) (k := 30) rfl in_X4 (by decide) q1700 (fun _ h9 => h9) dX4_saw_16 h (fun u2 h => ?_)
        refine lv_iload hx hb dX4_saw_19 (lv_at hl 6 rfl) ?_
        refine mm_iald C S h dX4_saw_21 (fun v3 h => ?_)
        refine lv_iload_n hx hb dX4_saw_22 rfl (lv_at hl 1 rfl) ?_
        refine lv_icmp_ne (tgt := 79) hx hb dX4_saw_23 (by decide) (fun c9 => ?_) (fun c9 => ?_)
        · have h := h.1 c9
          exact j79 _ _ _ _ _ _ _ _ _ _ _ _ _ hk S hl h
        · have h := h.2 c9
          refine lv_aload_n hx hb dX4_saw_26 rfl (lv_at hl 0 rfl) ?_
          refine mm_gfa C S (ci := 3) (k := 33) rfl in_X4 (by decide) q1703 (fun _ h9 => h9) dX4_saw_27 h (fun u4 h => ?_)
          refine lv_iload hx hb dX4_saw_30 (lv_at hl 6 rfl) ?_
          refine mm_iald C S h dX4_saw_32 (fun v5 h => ?_)
          refine lv_iload_n hx hb dX4_saw_33 rfl (lv_at hl 2 rfl) ?_
          refine lv_icmp_ne (tgt := 79) hx hb dX4_saw_34 (by decide) (fun c9 => ?_) (fun c9 => ?_)
          · have h := h.1 c9
            exact j79 _ _ _ _ _ _ _ _ _ _ _ _ _ hk S hl h
          · have h := h.2 c9
            refine lv_aload_n hx hb dX4_saw_37 rfl (lv_at hl 0 rfl) ?_
            refine mm_gfa C S (ci := 3) (k := 34) rfl in_X4 (by decide) q1704 (fun _ h9 => h9) dX4_saw_38 h (fun u6 h => ?_)
            refine lv_iload hx hb dX4_saw_41 (lv_at hl 6 rfl) ?_
            refine mm_iald C S h dX4_saw_43 (fun v7 h => ?_)
            refine lv_iconst (v := 1) hx hb dX4_saw_44 (by decide) ?_
            refine lv_icmp_ne (tgt := 79) hx hb dX4_saw_45 (by decide) (fun c9 => ?_) (fun c9 => ?_)
            · have h := h.1 c9
              exact j79 _ _ _ _ _ _ _ _ _ _ _ _ _ hk S hl h
            · have h := h.2 c9
              refine lv_aload_n hx hb dX4_saw_48 rfl (lv_at hl 0 rfl) ?_
              refine mm_gfa C S (ci := 3) (k := 42) rfl in_X4 (by decide) q1712 (fun _ h9 => h9) dX4_saw_49 h (fun u8 h => ?_)
              refine lv_iload hx hb dX4_saw_52 (lv_at hl 6 rfl) ?_
              refine mm_aald C S (t := 10) rfl rfl h dX4_saw_54 (fun u9 h => ?_)
              refine lv_iload_n hx hb dX4_saw_55 rfl (lv_at hl 3 rfl) ?_
              refine mm_zald C S h dX4_saw_56 (fun v10 h => ?_)
              refine lv_if_eq (tgt := 79) hx hb dX4_saw_57 (by decide) (fun c9 => ?_) (fun c9 => ?_)
              · have h := h.1 c9
                exact j79 _ _ _ _ _ _ _ _ _ _ _ _ _ hk S hl h
              · have h := h.2 c9
                refine lv_iload hx hb dX4_saw_60 (lv_at hl 5 rfl) ?_
                refine lv_aload_n hx hb dX4_saw_62 rfl (lv_at hl 0 rfl) ?_
                refine mm_gfa C S (ci := 3) (k := 41) rfl in_X4 (by decide) q1711 (fun _ h9 => h9) dX4_saw_63 h (fun u11 h => ?_)
                refine lv_iload hx hb dX4_saw_66 (lv_at hl 6 rfl) ?_
                refine mm_aald C S (t := 9) rfl rfl h dX4_saw_68 (fun u12 h => ?_)
                refine lv_iload_n hx hb dX4_saw_69 rfl (lv_at hl 3 rfl) ?_
                refine mm_aald C S (t := 8) rfl rfl h dX4_saw_70 (fun u13 h => ?_)
                refine lv_iload hx hb dX4_saw_71 (lv_at hl 4 rfl) ?_
                refine mm_iald C S h dX4_saw_73 (fun v14 h => ?_)
                refine mm_max C hl.1 q1880 q328 q68 q329 (Nat.le_of_ble_eq_true rfl) (Nat.le_of_ble_eq_true rfl) (Nat.le_trans (Nat.le_add_right _ _) hk) (Nat.le_trans (Nat.le_add_right _ _) hk) dX4_saw_74 ?_
                refine lv_topi (fun g15 eg15 => ?_)
                have h := h g15 eg15
                refine lv_istore (lv' := [(5, .int g15), (0, .ref a0), (1, .int x1), (2, .int x2), (3, .int x3), (4, .int x4), (6, .int x6)]) hx hb dX4_saw_77 hl (by decide) rfl (fun ls hl => ?_)
                exact j79 _ _ _ _ _ _ _ _ _ _ _ _ _ hk S (lv_sub hl [1, 2, 3, 4, 5, 0, 6] rfl) h
  unfold wp_X4_saw at h
  refine lv_iconst (v := (-1)) hx hb dX4_saw_0 (by decide) ?_
  refine lv_istore (lv' := [(5, .int (-1)), (0, .ref a0), (1, .int x1), (2, .int x2), (3, .int x3), (4, .int x4)]) hx hb dX4_saw_1 hl (by decide) rfl (fun ls hl => ?_)
  refine lv_iconst (v := 0) hx hb dX4_saw_3 (by decide) ?_
  refine lv_istore (lv' := [(6, .int 0), (5, .int (-1)), (0, .ref a0), (1, .int x1), (2, .int x2), (3, .int x3), (4, .int x4)]) hx hb dX4_saw_4 hl (by decide) rfl (fun ls hl => ?_)
  obtain ⟨nf, h⟩ := h
  exact j6 nf _ _ _ _ _ _ _ _ _ _ _ _ _ hk S (lv_sub hl [2, 3, 4, 5, 6, 1, 0] rfl) h
/-! X4_shareOf: level 11 -/
def wb_X4_shareOf_181 (G : mG) (P : Int32 → mM → Prop) (r : Nat) (M : mM) (s0 : Int32) : Prop :=
  P s0 M
def wb_X4_shareOf_135 (G : mG) (P : Int32 → mM → Prop) (K8 : Nat → mM → Nat → Int32 → Int64 → Int64 → Int32 → Prop) (K20 : Nat → mM → Nat → Int32 → Int64 → Int64 → Int32 → Int32 → Prop) (K30 : Nat → mM → Nat → Int32 → Int64 → Int64 → Int32 → Int32 → Int32 → Prop) (r : Nat) (M : mM) (a0 : Nat) (x1 : Int32) (y2 : Int64) (y4 : Int64) (x6 : Int32) (x7 : Int32) (x8 : Int32) : Prop :=
  K30 r M a0 x1 y2 y4 x6 x7 (x8 + 1)
def wb_X4_shareOf_101 (G : mG) (P : Int32 → mM → Prop) (K8 : Nat → mM → Nat → Int32 → Int64 → Int64 → Int32 → Prop) (K20 : Nat → mM → Nat → Int32 → Int64 → Int64 → Int32 → Int32 → Prop) (K30 : Nat → mM → Nat → Int32 → Int64 → Int64 → Int32 → Int32 → Int32 → Prop) (r : Nat) (M : mM) (a0 : Nat) (x1 : Int32) (y2 : Int64) (y4 : Int64) (x6 : Int32) (x7 : Int32) (x8 : Int32) (x9 : Int32) (x10 : Int32) : Prop :=
  (x9 = (-1) → wb_X4_shareOf_135 G P K8 K20 K30 r M a0 x1 y2 y4 x6 x7 x8) ∧ (¬ x9 = (-1) → (¬ x10 = (-1) → ∀ g9 : Int32, g9 = (if x9 < x10 then x10 else x9) → wb_X4_shareOf_135 G P K8 K20 K30 r M a0 x1 (y2 + x9.toInt64) (y4 + g9.toInt64) x6 x7 x8) ∧ (x10 = (-1) → wb_X4_shareOf_135 G P K8 K20 K30 r M a0 x1 y2 y4 x6 x7 x8))
def wb_X4_shareOf_95 (G : mG) (P : Int32 → mM → Prop) (K8 : Nat → mM → Nat → Int32 → Int64 → Int64 → Int32 → Prop) (K20 : Nat → mM → Nat → Int32 → Int64 → Int64 → Int32 → Int32 → Prop) (K30 : Nat → mM → Nat → Int32 → Int64 → Int64 → Int32 → Int32 → Int32 → Prop) (K55 : Nat → mM → Nat → Int32 → Int64 → Int64 → Int32 → Int32 → Int32 → Int32 → Int32 → Int32 → Prop) (r : Nat) (M : mM) (a0 : Nat) (x1 : Int32) (y2 : Int64) (y4 : Int64) (x6 : Int32) (x7 : Int32) (x8 : Int32) (x9 : Int32) (x10 : Int32) (x11 : Int32) : Prop :=
  K55 r M a0 x1 y2 y4 x6 x7 x8 x9 x10 (x11 + 1)
def wl_X4_shareOf_55 (G : mG) (P : Int32 → mM → Prop) (K8 : Nat → mM → Nat → Int32 → Int64 → Int64 → Int32 → Prop) (K20 : Nat → mM → Nat → Int32 → Int64 → Int64 → Int32 → Int32 → Prop) (K30 : Nat → mM → Nat → Int32 → Int64 → Int64 → Int32 → Int32 → Int32 → Prop) : Nat → Nat → mM → Nat → Int32 → Int64 → Int64 → Int32 → Int32 → Int32 → Int32 → Int32 → Int32 → Prop
  | 0, _, _, _, _, _, _, _, _, _, _, _, _ => False
  | n + 1, r, M, a0, x1, y2, y4, x6, x7, x8, x9, x10, x11 => gfi M a0 3 27 fun v5 => (v5 ≤ x11 → wb_X4_shareOf_101 G P K8 K20 K30 r M a0 x1 y2 y4 x6 x7 x8 x9 x10) ∧ (¬ v5 ≤ x11 → (x9 = (-1) → wb_X4_shareOf_101 G P K8 K20 K30 r M a0 x1 y2 y4 x6 x7 x8 x9 x10) ∧ (¬ x9 = (-1) → (x11 = x1 → wb_X4_shareOf_95 G P K8 K20 K30 (wl_X4_shareOf_55 G P K8 K20 K30 n) r M a0 x1 y2 y4 x6 x7 x8 x9 x10 x11) ∧ (¬ x11 = x1 → isc M a0 3 ∧ (wp_X4_saw G 0 (fun v7 M6 => ∀ g8 : Int32, g8 = (if x10 < v7 then v7 else x10) → wb_X4_shareOf_95 G P K8 K20 K30 (wl_X4_shareOf_55 G P K8 K20 K30 n) r M6 a0 x1 y2 y4 x6 x7 x8 x9 g8 x11) M a0 x11 x6 x7 x8))))
def wl_X4_shareOf_30 (G : mG) (P : Int32 → mM → Prop) (K8 : Nat → mM → Nat → Int32 → Int64 → Int64 → Int32 → Prop) (K20 : Nat → mM → Nat → Int32 → Int64 → Int64 → Int32 → Int32 → Prop) : Nat → Nat → mM → Nat → Int32 → Int64 → Int64 → Int32 → Int32 → Int32 → Prop
  | 0, _, _, _, _, _, _, _, _, _ => False
  | n + 1, r, M, a0, x1, y2, y4, x6, x7, x8 => (4 ≤ x8 → K20 r M a0 x1 y2 y4 x6 (x7 + 1)) ∧ (¬ 4 ≤ x8 → isc M a0 3 ∧ (wp_X4_saw G 0 (fun v4 M3 => ∃ n55, wl_X4_shareOf_55 G P K8 K20 (wl_X4_shareOf_30 G P K8 K20 n) n55 r M3 a0 x1 y2 y4 x6 x7 x8 v4 (-1) 0) M a0 x1 x6 x7 x8))
def wl_X4_shareOf_20 (G : mG) (P : Int32 → mM → Prop) (K8 : Nat → mM → Nat → Int32 → Int64 → Int64 → Int32 → Prop) : Nat → Nat → mM → Nat → Int32 → Int64 → Int64 → Int32 → Int32 → Prop
  | 0, _, _, _, _, _, _, _, _ => False
  | n + 1, r, M, a0, x1, y2, y4, x6, x7 => (36 ≤ x7 → K8 r M a0 x1 y2 y4 (x6 + 1)) ∧ (¬ 36 ≤ x7 → ∃ n30, wl_X4_shareOf_30 G P K8 (wl_X4_shareOf_20 G P K8 n) n30 r M a0 x1 y2 y4 x6 x7 0)
def wl_X4_shareOf_8 (G : mG) (P : Int32 → mM → Prop) : Nat → Nat → mM → Nat → Int32 → Int64 → Int64 → Int32 → Prop
  | 0, _, _, _, _, _, _, _ => False
  | n + 1, r, M, a0, x1, y2, y4, x6 => gfi M a0 3 2 fun v1 => (v1 < x6 → (¬ (lg_cmp y4 0) = 0 → ¬ y4 = 0 ∧ (∀ g2 : Int64, g2 = (if ((1000 * y2) / y4) < (300 : Int64) then (300 : Int64) else ((1000 * y2) / y4)) → wb_X4_shareOf_181 G P r M g2.toInt32)) ∧ ((lg_cmp y4 0) = 0 → wb_X4_shareOf_181 G P r M 1000)) ∧ (¬ v1 < x6 → ∃ n20, wl_X4_shareOf_20 G P (wl_X4_shareOf_8 G P n) n20 r M a0 x1 y2 y4 x6 0)
def wp_X4_shareOf (G : mG) (b : Nat) (P : Int32 → mM → Prop) (M : mM) (a0 : Nat) (x1 : Int32) : Prop :=
  ∃ n8, wl_X4_shareOf_8 G P n8 b M a0 x1 0 0 0
set_option maxHeartbeats 4000000 in
set_option maxRecDepth 100000 in
theorem wk_X4_shareOf {l : Launch} (hst0 : l.stackTraces = false) {G : mG} {b : Nat} {P : Int32 → mM → Prop} {M : mM} {a0 : Nat} {x1 : Int32} (h : wp_X4_shareOf G b P M a0 x1) : mMet l yX4_shareOf (ws_ yX4_shareOf cX4_shareOf 12 (Option.some Jvm.ClassFile.FieldType.int)) 11 b G [.ref a0, .int x1] M (mRi P) (fun _ _ _ => False) := by
  refine mm_met hst0 (by decide) (Nat.le_of_ble_eq_true rfl) ?_
  intro p e s m args below meth c ls C hr hnt hnm hl S
  have hl : lv_has ls 12 [(0, .ref a0), (1, .int x1)] := hl
  generalize mA M s.heap.size = A at C S ⊢
  have hx := C.hx
  have hb := C.hb
  have hk : 0 + b ≤ b := Nat.le_of_eq (Nat.zero_add b)
  have j181 : ∀ (k r : Nat) (M : mM) (H : Heap) (locs : List Loc) (ls : Array Slot) (s0 : Int32), k + r ≤ b → mW G A s M H locs → lv_has ls 12 [] → wb_X4_shareOf_181 G P r M s0 → W p l e (mRm 11 b) s m args below meth c H locs k k (vx_MQ below (mQ G A (mRi P)) (mXC G A (fun _ _ _ => False)) args s b b A) (F0 m 181 ls [.int s0]) := by
    intro k r M H locs ls s0 hk S hl h
    unfold wb_X4_shareOf_181 at h
    exact mm_iret C S hr (Nat.le_trans (Nat.le_add_right _ _) hk) dX4_shareOf_181 h
  have j8 : ∀ (nf : Nat) (k r : Nat) (M : mM) (H : Heap) (locs : List Loc) (ls : Array Slot) (a0 : Nat) (x1 : Int32) (y2 : Int64) (y4 : Int64) (x6 : Int32), k + r ≤ b → mW G A s M H locs → lv_has ls 12 [(0, .ref a0), (1, .int x1), (2, .long y2), (4, .long y4), (6, .int x6)] → wl_X4_shareOf_8 G P nf r M a0 x1 y2 y4 x6 → W p l e (mRm 11 b) s m args below meth c H locs k k (vx_MQ below (mQ G A (mRi P)) (mXC G A (fun _ _ _ => False)) args s b b A) (F0 m 8 ls []) := by
    intro nf
    induction nf with
    | zero =>
      intro k r M H locs ls a0 x1 y2 y4 x6 hk S hl h
      rw [wl_X4_shareOf_8] at h
      exact h.elim
    | succ n8 ih8 =>
      have j20 : ∀ (nf : Nat) (k r : Nat) (M : mM) (H : Heap) (locs : List Loc) (ls : Array Slot) (a0 : Nat) (x1 : Int32) (y2 : Int64) (y4 : Int64) (x6 : Int32) (x7 : Int32), k + r ≤ b → mW G A s M H locs → lv_has ls 12 [(0, .ref a0), (1, .int x1), (2, .long y2), (4, .long y4), (6, .int x6), (7, .int x7)] → wl_X4_shareOf_20 G P (wl_X4_shareOf_8 G P n8) nf r M a0 x1 y2 y4 x6 x7 → W p l e (mRm 11 b) s m args below meth c H locs k k (vx_MQ below (mQ G A (mRi P)) (mXC G A (fun _ _ _ => False)) args s b b A) (F0 m 20 ls []) := by
        intro nf
        induction nf with
        | zero =>
          intro k r M H locs ls a0 x1 y2 y4 x6 x7 hk S hl h
          rw [wl_X4_shareOf_20] at h
          exact h.elim
        | succ n20 ih20 =>
          have j30 : ∀ (nf : Nat) (k r : Nat) (M : mM) (H : Heap) (locs : List Loc) (ls : Array Slot) (a0 : Nat) (x1 : Int32) (y2 : Int64) (y4 : Int64) (x6 : Int32) (x7 : Int32) (x8 : Int32), k + r ≤ b → mW G A s M H locs → lv_has ls 12 [(0, .ref a0), (1, .int x1), (2, .long y2), (4, .long y4), (6, .int x6), (7, .int x7), (8, .int x8)] → wl_X4_shareOf_30 G P (wl_X4_shareOf_8 G P n8) (wl_X4_shareOf_20 G P (wl_X4_shareOf_8 G P n8) n20) nf r M a0 x1 y2 y4 x6 x7 x8 → W p l e (mRm 11 b) s m args below meth c H locs k k (vx_MQ below (mQ G A (mRi P)) (mXC G A (fun _ _ _ => False)) args s b b A) (F0 m 30 ls []) := by
            intro nf
            induction nf with
            | zero =>
              intro k r M H locs ls a0 x1 y2 y4 x6 x7 x8 hk S hl h
              rw [wl_X4_shareOf_30] at h
              exact h.elim
            | succ n30 ih30 =>
              have j135 : ∀ (k r : Nat) (M : mM) (H : Heap) (locs : List Loc) (ls : Array Slot) (a0 : Nat) (x1 : Int32) (y2 : Int64) (y4 : Int64) (x6 : Int32) (x7 : Int32) (x8 : Int32), k + r ≤ b → mW G A s M H locs → lv_has ls 12 [(0, .ref a0), (1, .int x1), (2, .long y2), (4, .long y4), (6, .int x6), (7, .int x7), (8, .int x8)] → wb_X4_shareOf_135 G P (wl_X4_shareOf_8 G P n8) (wl_X4_shareOf_20 G P (wl_X4_shareOf_8 G P n8) n20) (wl_X4_shareOf_30 G P (wl_X4_shareOf_8 G P n8) (wl_X4_shareOf_20 G P (wl_X4_shareOf_8 G P n8) n20) n30) r M a0 x1 y2 y4 x6 x7 x8 → W p l e (mRm 11 b) s m args below meth c H locs k k (vx_MQ below (mQ G A (mRi P)) (mXC G A (fun _ _ _ => False)) args s b b A) (F0 m 135 ls []) := by
                intro k r M H locs ls a0 x1 y2 y4 x6 x7 x8 hk S hl h
                unfold wb_X4_shareOf_135 at h
                refine lv_iinc (v := (x8 + 1)) (lv' := [(8, .int (x8 + 1)), (0, .ref a0), (1, .int x1), (2, .long y2), (4, .long y4), (6, .int x6), (7, .int x7)]) hx hb dX4_shareOf_135 hl (k := 6) rfl rfl (by decide) rfl (fun ls hl => ?_)
                refine lv_goto (tgt := 30) hx hb dX4_shareOf_138 (by decide) ?_
                exact ih30 _ _ _ _ _ _ _ _ _ _ _ _ _ hk S (lv_sub hl [1, 2, 3, 4, 5, 6, 0] rfl) h
              have j101 : ∀ (k r : Nat) (M : mM) (H : Heap) (locs : List Loc) (ls : Array Slot) (a0 : Nat) (x1 : Int32) (y2 : Int64) (y4 : Int64) (x6 : Int32) (x7 : Int32) (x8 : Int32) (x9 : Int32) (x10 : Int32), k + r ≤ b → mW G A s M H locs → lv_has ls 12 [(0, .ref a0), (1, .int x1), (2, .long y2), (4, .long y4), (6, .int x6), (7, .int x7), (8, .int x8), (9, .int x9), (10, .int x10)] → wb_X4_shareOf_101 G P (wl_X4_shareOf_8 G P n8) (wl_X4_shareOf_20 G P (wl_X4_shareOf_8 G P n8) n20) (wl_X4_shareOf_30 G P (wl_X4_shareOf_8 G P n8) (wl_X4_shareOf_20 G P (wl_X4_shareOf_8 G P n8) n20) n30) r M a0 x1 y2 y4 x6 x7 x8 x9 x10 → W p l e (mRm 11 b) s m args below meth c H locs k k (vx_MQ below (mQ G A (mRi P)) (mXC G A (fun _ _ _ => False)) args s b b A) (F0 m 101 ls []) := by
                intro k r M H locs ls a0 x1 y2 y4 x6 x7 x8 x9 x10 hk S hl h
                unfold wb_X4_shareOf_101 at h
                refine lv_iload hx hb dX4_shareOf_101 (lv_at hl 7 rfl) ?_
                refine lv_iconst (v := (-1)) hx hb dX4_shareOf_103 (by decide) ?_
                refine lv_icmp_eq (tgt := 135) hx hb dX4_shareOf_104 (by decide) (fun c9 => ?_) (fun c9 => ?_)
                · have h := h.1 c9
                  exact j135 _ _ _ _ _ _ _ _ _ _ _ _ _ hk S (lv_sub hl [0, 1, 2, 3, 4, 5, 6] rfl) h
                · have h := h.2 c9
                  refine lv_iload hx hb dX4_shareOf_107 (lv_at hl 8 rfl) ?_
                  refine lv_iconst (v := (-1)) hx hb dX4_shareOf_109 (by decide) ?_
                  refine lv_icmp_ne (tgt := 116) hx hb dX4_shareOf_110 (by decide) (fun c9 => ?_) (fun c9 => ?_)
                  · have h := h.1 c9
                    refine lv_lload_n hx hb dX4_shareOf_116 rfl (lv_at hl 2 rfl) ?_
                    refine lv_iload hx hb dX4_shareOf_117 (lv_at hl 7 rfl) ?_
                    refine lv_i2l hx hb dX4_shareOf_119 rfl ?_
                    refine lv_ladd hx hb dX4_shareOf_120 ?_
                    refine lv_lstore_n (lv' := [(2, .long (y2 + x9.toInt64)), (0, .ref a0), (1, .int x1), (4, .long y4), (6, .int x6), (7, .int x7), (8, .int x8), (9, .int x9), (10, .int x10)]) hx hb dX4_shareOf_121 rfl hl (by decide) rfl (fun ls hl => ?_)
                    refine lv_lload hx hb dX4_shareOf_122 (lv_at hl 3 rfl) ?_
                    refine lv_iload hx hb dX4_shareOf_124 (lv_at hl 7 rfl) ?_
                    refine lv_iload hx hb dX4_shareOf_126 (lv_at hl 8 rfl) ?_
                    refine mm_max C hl.1 q1880 q328 q68 q329 (Nat.le_of_ble_eq_true rfl) (Nat.le_of_ble_eq_true rfl) (Nat.le_trans (Nat.le_add_right _ _) hk) (Nat.le_trans (Nat.le_add_right _ _) hk) dX4_shareOf_128 ?_
                    refine lv_topi (fun g9 eg9 => ?_)
                    have h := h g9 eg9
                    refine lv_i2l hx hb dX4_shareOf_131 rfl ?_
                    refine lv_ladd hx hb dX4_shareOf_132 ?_
                    refine lv_lstore (lv' := [(4, .long (y4 + g9.toInt64)), (2, .long (y2 + x9.toInt64)), (0, .ref a0), (1, .int x1), (6, .int x6), (7, .int x7), (8, .int x8), (9, .int x9), (10, .int x10)]) hx hb dX4_shareOf_133 hl (by decide) rfl (fun ls hl => ?_)
                    exact j135 _ _ _ _ _ _ _ _ _ _ _ _ _ hk S (lv_sub hl [2, 3, 1, 0, 4, 5, 6] rfl) h
                  · have h := h.2 c9
                    refine lv_goto (tgt := 135) hx hb dX4_shareOf_113 (by decide) ?_
                    exact j135 _ _ _ _ _ _ _ _ _ _ _ _ _ hk S (lv_sub hl [0, 1, 2, 3, 4, 5, 6] rfl) h
              have j55 : ∀ (nf : Nat) (k r : Nat) (M : mM) (H : Heap) (locs : List Loc) (ls : Array Slot) (a0 : Nat) (x1 : Int32) (y2 : Int64) (y4 : Int64) (x6 : Int32) (x7 : Int32) (x8 : Int32) (x9 : Int32) (x10 : Int32) (x11 : Int32), k + r ≤ b → mW G A s M H locs → lv_has ls 12 [(0, .ref a0), (1, .int x1), (2, .long y2), (4, .long y4), (6, .int x6), (7, .int x7), (8, .int x8), (9, .int x9), (10, .int x10), (11, .int x11)] → wl_X4_shareOf_55 G P (wl_X4_shareOf_8 G P n8) (wl_X4_shareOf_20 G P (wl_X4_shareOf_8 G P n8) n20) (wl_X4_shareOf_30 G P (wl_X4_shareOf_8 G P n8) (wl_X4_shareOf_20 G P (wl_X4_shareOf_8 G P n8) n20) n30) nf r M a0 x1 y2 y4 x6 x7 x8 x9 x10 x11 → W p l e (mRm 11 b) s m args below meth c H locs k k (vx_MQ below (mQ G A (mRi P)) (mXC G A (fun _ _ _ => False)) args s b b A) (F0 m 55 ls []) := by
                intro nf
                induction nf with
                | zero =>
                  intro k r M H locs ls a0 x1 y2 y4 x6 x7 x8 x9 x10 x11 hk S hl h
                  rw [wl_X4_shareOf_55] at h
                  exact h.elim
                | succ n55 ih55 =>
                  have j95 : ∀ (k r : Nat) (M : mM) (H : Heap) (locs : List Loc) (ls : Array Slot) (a0 : Nat) (x1 : Int32) (y2 : Int64) (y4 : Int64) (x6 : Int32) (x7 : Int32) (x8 : Int32) (x9 : Int32) (x10 : Int32) (x11 : Int32), k + r ≤ b → mW G A s M H locs → lv_has ls 12 [(0, .ref a0), (1, .int x1), (2, .long y2), (4, .long y4), (6, .int x6), (7, .int x7), (8, .int x8), (9, .int x9), (10, .int x10), (11, .int x11)] → wb_X4_shareOf_95 G P (wl_X4_shareOf_8 G P n8) (wl_X4_shareOf_20 G P (wl_X4_shareOf_8 G P n8) n20) (wl_X4_shareOf_30 G P (wl_X4_shareOf_8 G P n8) (wl_X4_shareOf_20 G P (wl_X4_shareOf_8 G P n8) n20) n30) (wl_X4_shareOf_55 G P (wl_X4_shareOf_8 G P n8) (wl_X4_shareOf_20 G P (wl_X4_shareOf_8 G P n8) n20) (wl_X4_shareOf_30 G P (wl_X4_shareOf_8 G P n8) (wl_X4_shareOf_20 G P (wl_X4_shareOf_8 G P n8) n20) n30) n55) r M a0 x1 y2 y4 x6 x7 x8 x9 x10 x11 → W p l e (mRm 11 b) s m args below meth c H locs k k (vx_MQ below (mQ G A (mRi P)) (mXC G A (fun _ _ _ => False)) args s b b A) (F0 m 95 ls []) := by
                    intro k r M H locs ls a0 x1 y2 y4 x6 x7 x8 x9 x10 x11 hk S hl h
                    unfold wb_X4_shareOf_95 at h
                    refine lv_iinc (v := (x11 + 1)) (lv' := [(11, .int (x11 + 1)), (0, .ref a0), (1, .int x1), (2, .long y2), (4, .long y4), (6, .int x6), (7, .int x7), (8, .int x8), (9, .int x9), (10, .int x10)]) hx hb dX4_shareOf_95 hl (k := 9) rfl rfl (by decide) rfl (fun ls hl => ?_)
                    refine lv_goto (tgt := 55) hx hb dX4_shareOf_98 (by decide) ?_
                    exact ih55 _ _ _ _ _ _ _ _ _ _ _ _ _ _ _ _ hk S (lv_sub hl [1, 2, 3, 4, 5, 6, 7, 8, 9, 0] rfl) h
                  intro k r M H locs ls a0 x1 y2 y4 x6 x7 x8 x9 x10 x11 hk S hl h
                  rw [wl_X4_shareOf_55] at h
                  refine lv_iload hx hb dX4_shareOf_55 (lv_at hl 9 rfl) ?_
                  refine lv_aload_n hx hb dX4_shareOf_57 rfl (lv_at hl 0 rfl) ?_
                  refine mm_gfi C S (ci := 3) (k := 27) rfl in_X4 (by decide) q1697 (fun _ h9 => h9) dX4_shareOf_58 h (fun v5 h => ?_)
                  refine lv_icmp_ge (tgt := 101) hx hb dX4_shareOf_61 (by decide) (fun c9 => ?_) (fun c9 => ?_)
                  · have h := h.1 c9
                    exact j101 _ _ _ _ _ _ _ _ _ _ _ _ _ _ _ hk S (lv_sub hl [0, 1, 2, 3, 4, 5, 6, 7, 8] rfl) h
                  · have h := h.2 c9
                    refine lv_iload hx hb dX4_shareOf_64 (lv_at hl 7 rfl) ?_
                    refine lv_iconst (v := (-1)) hx hb dX4_shareOf_66 (by decide) ?_
                    refine lv_icmp_eq (tgt := 101) hx hb dX4_shareOf_67 (by decide) (fun c9 => ?_) (fun c9 => ?_)
                    · have h := h.1 c9
                      exact j101 _ _ _ _ _ _ _ _ _ _ _ _ _ _ _ hk S (lv_sub hl [0, 1, 2, 3, 4, 5, 6, 7, 8] rfl) h
                    · have h := h.2 c9
                      refine lv_iload hx hb dX4_shareOf_70 (lv_at hl 9 rfl) ?_
                      refine lv_iload_n hx hb dX4_shareOf_72 rfl (lv_at hl 1 rfl) ?_
                      refine lv_icmp_eq (tgt := 95) hx hb dX4_shareOf_73 (by decide) (fun c9 => ?_) (fun c9 => ?_)
                      · have h := h.1 c9
                        exact j95 _ _ _ _ _ _ _ _ _ _ _ _ _ _ _ _ hk S hl h
                      · have h := h.2 c9
                        refine lv_iload hx hb dX4_shareOf_76 (lv_at hl 8 rfl) ?_
                        refine lv_aload_n hx hb dX4_shareOf_78 rfl (lv_at hl 0 rfl) ?_
                        refine lv_iload hx hb dX4_shareOf_79 (lv_at hl 9 rfl) ?_
                        refine lv_iload hx hb dX4_shareOf_81 (lv_at hl 4 rfl) ?_
                        refine lv_iload hx hb dX4_shareOf_83 (lv_at hl 5 rfl) ?_
                        refine lv_iload hx hb dX4_shareOf_85 (lv_at hl 6 rfl) ?_
                        obtain ⟨hI, h⟩ := h
                        refine mm_V (As := [.int x11, .int x6, .int x7, .int x8]) (rest := [.int x10]) C S hl.1 (wk_X4_saw hst0 h) (T := TX4) rfl hI (lw_V q2009 q2011 qs43 q58 q2012) rfl pd_X4_saw ⟨Nat.le_of_ble_eq_true rfl, Nat.le_of_ble_eq_true rfl⟩ rfl rfl (Nat.le_of_ble_eq_true rfl) dX4_shareOf_87 rfl rfl hk (Nat.zero_add _) (fun v9 M6 H locs hP S hk => ?_) (fun E q ce M9 H9 locs9 hX => hX.elim)
                        obtain ⟨v7, rfl, h⟩ := hP
                        refine W.eq (g2 := F0 m 90 ls [.int v7, .int x10]) rfl ?_
                        refine mm_max C hl.1 q1880 q328 q68 q329 (Nat.le_of_ble_eq_true rfl) (Nat.le_of_ble_eq_true rfl) (Nat.le_trans (Nat.le_add_right _ _) hk) (Nat.le_trans (Nat.le_add_right _ _) hk) dX4_shareOf_90 ?_
                        refine lv_topi (fun g8 eg8 => ?_)
                        have h := h g8 eg8
                        refine lv_istore (lv' := [(10, .int g8), (0, .ref a0), (1, .int x1), (2, .long y2), (4, .long y4), (6, .int x6), (7, .int x7), (8, .int x8), (9, .int x9), (11, .int x11)]) hx hb dX4_shareOf_93 hl (by decide) rfl (fun ls hl => ?_)
                        exact j95 _ _ _ _ _ _ _ _ _ _ _ _ _ _ _ _ hk S (lv_sub hl [1, 2, 3, 4, 5, 6, 7, 8, 0, 9] rfl) h
              intro k r M H locs ls a0 x1 y2 y4 x6 x7 x8 hk S hl h
              rw [wl_X4_shareOf_30] at h
              refine lv_iload hx hb dX4_shareOf_30 (lv_at hl 6 rfl) ?_
              refine lv_iconst (v := 4) hx hb dX4_shareOf_32 (by decide) ?_
              refine lv_icmp_ge (tgt := 141) hx hb dX4_shareOf_33 (by decide) (fun c9 => ?_) (fun c9 => ?_)
              · have h := h.1 c9
                refine lv_iinc (v := (x7 + 1)) (lv' := [(7, .int (x7 + 1)), (0, .ref a0), (1, .int x1), (2, .long y2), (4, .long y4), (6, .int x6), (8, .int x8)]) hx hb dX4_shareOf_141 hl (k := 5) rfl rfl (by decide) rfl (fun ls hl => ?_)
                refine lv_goto (tgt := 20) hx hb dX4_shareOf_144 (by decide) ?_
                exact ih20 _ _ _ _ _ _ _ _ _ _ _ _ hk S (lv_sub hl [1, 2, 3, 4, 5, 0] rfl) h
              · have h := h.2 c9
                refine lv_aload_n hx hb dX4_shareOf_36 rfl (lv_at hl 0 rfl) ?_
                refine lv_iload_n hx hb dX4_shareOf_37 rfl (lv_at hl 1 rfl) ?_
                refine lv_iload hx hb dX4_shareOf_38 (lv_at hl 4 rfl) ?_
                refine lv_iload hx hb dX4_shareOf_40 (lv_at hl 5 rfl) ?_
                refine lv_iload hx hb dX4_shareOf_42 (lv_at hl 6 rfl) ?_
                obtain ⟨hI, h⟩ := h
                refine mm_V (As := [.int x1, .int x6, .int x7, .int x8]) (rest := []) C S hl.1 (wk_X4_saw hst0 h) (T := TX4) rfl hI (lw_V q2009 q2011 qs43 q58 q2012) rfl pd_X4_saw ⟨Nat.le_of_ble_eq_true rfl, Nat.le_of_ble_eq_true rfl⟩ rfl rfl (Nat.le_of_ble_eq_true rfl) dX4_shareOf_44 rfl rfl hk (Nat.zero_add _) (fun v9 M3 H locs hP S hk => ?_) (fun E q ce M9 H9 locs9 hX => hX.elim)
                obtain ⟨v4, rfl, h⟩ := hP
                refine W.eq (g2 := F0 m 47 ls [.int v4]) rfl ?_
                refine lv_istore (lv' := [(9, .int v4), (0, .ref a0), (1, .int x1), (2, .long y2), (4, .long y4), (6, .int x6), (7, .int x7), (8, .int x8)]) hx hb dX4_shareOf_47 hl (by decide) rfl (fun ls hl => ?_)
                refine lv_iconst (v := (-1)) hx hb dX4_shareOf_49 (by decide) ?_
                refine lv_istore (lv' := [(10, .int (-1)), (9, .int v4), (0, .ref a0), (1, .int x1), (2, .long y2), (4, .long y4), (6, .int x6), (7, .int x7), (8, .int x8)]) hx hb dX4_shareOf_50 hl (by decide) rfl (fun ls hl => ?_)
                refine lv_iconst (v := 0) hx hb dX4_shareOf_52 (by decide) ?_
                refine lv_istore (lv' := [(11, .int 0), (10, .int (-1)), (9, .int v4), (0, .ref a0), (1, .int x1), (2, .long y2), (4, .long y4), (6, .int x6), (7, .int x7), (8, .int x8)]) hx hb dX4_shareOf_53 hl (by decide) rfl (fun ls hl => ?_)
                obtain ⟨nf, h⟩ := h
                exact j55 nf _ _ _ _ _ _ _ _ _ _ _ _ _ _ _ _ hk S (lv_sub hl [3, 4, 5, 6, 7, 8, 9, 2, 1, 0] rfl) h
          intro k r M H locs ls a0 x1 y2 y4 x6 x7 hk S hl h
          rw [wl_X4_shareOf_20] at h
          refine lv_iload hx hb dX4_shareOf_20 (lv_at hl 5 rfl) ?_
          refine lv_bipush (v := 36) hx hb dX4_shareOf_22 (by decide) ?_
          refine lv_icmp_ge (tgt := 147) hx hb dX4_shareOf_24 (by decide) (fun c9 => ?_) (fun c9 => ?_)
          · have h := h.1 c9
            refine lv_iinc (v := (x6 + 1)) (lv' := [(6, .int (x6 + 1)), (0, .ref a0), (1, .int x1), (2, .long y2), (4, .long y4), (7, .int x7)]) hx hb dX4_shareOf_147 hl (k := 4) rfl rfl (by decide) rfl (fun ls hl => ?_)
            refine lv_goto (tgt := 8) hx hb dX4_shareOf_150 (by decide) ?_
            exact ih8 _ _ _ _ _ _ _ _ _ _ _ hk S (lv_sub hl [1, 2, 3, 4, 0] rfl) h
          · have h := h.2 c9
            refine lv_iconst (v := 0) hx hb dX4_shareOf_27 (by decide) ?_
            refine lv_istore (lv' := [(8, .int 0), (0, .ref a0), (1, .int x1), (2, .long y2), (4, .long y4), (6, .int x6), (7, .int x7)]) hx hb dX4_shareOf_28 hl (by decide) rfl (fun ls hl => ?_)
            obtain ⟨nf, h⟩ := h
            exact j30 nf _ _ _ _ _ _ _ _ _ _ _ _ _ hk S (lv_sub hl [1, 2, 3, 4, 5, 6, 0] rfl) h
      intro k r M H locs ls a0 x1 y2 y4 x6 hk S hl h
      rw [wl_X4_shareOf_8] at h
      refine lv_iload hx hb dX4_shareOf_8 (lv_at hl 4 rfl) ?_
      refine lv_aload_n hx hb dX4_shareOf_10 rfl (lv_at hl 0 rfl) ?_
      refine mm_gfi C S (ci := 3) (k := 2) rfl in_X4 (by decide) q1672 (fun _ h9 => h9) dX4_shareOf_11 h (fun v1 h => ?_)
      refine lv_icmp_gt (tgt := 153) hx hb dX4_shareOf_14 (by decide) (fun c9 => ?_) (fun c9 => ?_)
      · have h := h.1 c9
        refine lv_lload hx hb dX4_shareOf_153 (lv_at hl 3 rfl) ?_
        refine lv_lconst (v := 0) hx hb dX4_shareOf_155 (by decide) ?_
        refine W.lcmp hx hb dX4_shareOf_156 ?_
        refine lv_if_ne (tgt := 166) hx hb dX4_shareOf_157 (by decide) (fun c9 => ?_) (fun c9 => ?_)
        · have h := h.1 c9
          refine lv_ldc2 hx hb C.hown (C.ts _ q2013) dX4_shareOf_166 ?_
          refine lv_ldc2 hx hb C.hown (C.ts _ q2014) dX4_shareOf_169 ?_
          refine lv_lload_n hx hb dX4_shareOf_172 rfl (lv_at hl 2 rfl) ?_
          refine lv_lmul hx hb dX4_shareOf_173 ?_
          refine lv_lload hx hb dX4_shareOf_174 (lv_at hl 3 rfl) ?_
          refine lv_ldiv hx hb dX4_shareOf_176 h.1 ?_
          have h := h.2
          refine mm_maxl C hl.1 q2015 q343 q68 q344 (Nat.le_of_ble_eq_true rfl) (Nat.le_of_ble_eq_true rfl) (Nat.le_trans (Nat.le_add_right _ _) hk) (Nat.le_trans (Nat.le_add_right _ _) hk) dX4_shareOf_177 ?_
          refine lv_topl (fun g2 eg2 => ?_)
          have h := h g2 eg2
          refine lv_l2i hx hb dX4_shareOf_180 rfl ?_
          exact j181 _ _ _ _ _ _ _ hk S (lv_sub hl [] rfl) h
        · have h := h.2 c9
          refine lv_sipush (v := 1000) hx hb dX4_shareOf_160 (by decide) ?_
          refine lv_goto (tgt := 181) hx hb dX4_shareOf_163 (by decide) ?_
          exact j181 _ _ _ _ _ _ _ hk S (lv_sub hl [] rfl) h
      · have h := h.2 c9
        refine lv_iconst (v := 0) hx hb dX4_shareOf_17 (by decide) ?_
        refine lv_istore (lv' := [(7, .int 0), (0, .ref a0), (1, .int x1), (2, .long y2), (4, .long y4), (6, .int x6)]) hx hb dX4_shareOf_18 hl (by decide) rfl (fun ls hl => ?_)
        obtain ⟨nf, h⟩ := h
        exact j20 nf _ _ _ _ _ _ _ _ _ _ _ _ hk S (lv_sub hl [1, 2, 3, 4, 5, 0] rfl) h
  unfold wp_X4_shareOf at h
  refine lv_lconst (v := 0) hx hb dX4_shareOf_0 (by decide) ?_
  refine lv_lstore_n (lv' := [(2, .long 0), (0, .ref a0), (1, .int x1)]) hx hb dX4_shareOf_1 rfl hl (by decide) rfl (fun ls hl => ?_)
  refine lv_lconst (v := 0) hx hb dX4_shareOf_2 (by decide) ?_
  refine lv_lstore (lv' := [(4, .long 0), (2, .long 0), (0, .ref a0), (1, .int x1)]) hx hb dX4_shareOf_3 hl (by decide) rfl (fun ls hl => ?_)
  refine lv_iconst (v := 0) hx hb dX4_shareOf_5 (by decide) ?_
  refine lv_istore (lv' := [(6, .int 0), (4, .long 0), (2, .long 0), (0, .ref a0), (1, .int x1)]) hx hb dX4_shareOf_6 hl (by decide) rfl (fun ls hl => ?_)
  obtain ⟨nf, h⟩ := h
  exact j8 nf _ _ _ _ _ _ _ _ _ _ _ hk S (lv_sub hl [3, 4, 2, 1, 0] rfl) h
/-! X4_tell: level 16 -/
def wb_X4_tell_216 (G : mG) (P : mM → Prop) (r : Nat) (M : mM) (s0 : Nat) (s1 : Int32) (s2 : Int32) : Prop :=
  sti M 0 s0 s1 s2 fun M39 => P M39
def wb_X4_tell_151 (G : mG) (P : mM → Prop) (r : Nat) (M : mM) (a0 : Nat) (x2 : Int32) (x3 : Int32) (x8 : Int32) (x9 : Int32) (x10 : Int32) (s0 : Int32) : Prop :=
  gfa M a0 3 45 fun u22 => lda M 9 u22 x10 fun u23 => lda M 8 u23 x2 fun u24 => gfa M a0 3 45 fun u25 => lda M 9 u25 x10 fun u26 => lda M 8 u26 x2 fun u27 => ldi M 0 u27 x3 fun v28 => ∀ g29 : Int32, g29 = (if v28 < x8 then x8 else v28) → sti M 0 u24 x3 g29 fun M30 => gfa M30 a0 3 46 fun u31 => lda M30 9 u31 x10 fun u32 => lda M30 8 u32 x2 fun u33 => (s0 = 0 → gfa M30 a0 3 46 fun u34 => lda M30 9 u34 x10 fun u35 => lda M30 8 u35 x2 fun u36 => ldi M30 0 u36 x3 fun v37 => ∀ g38 : Int32, g38 = (if x9 < v37 then x9 else v37) → wb_X4_tell_216 G P r M30 u33 x3 g38) ∧ (¬ s0 = 0 → wb_X4_tell_216 G P r M30 u33 x3 x9)
def wb_X4_tell_75 (G : mG) (P : mM → Prop) (r : Nat) (M : mM) (a0 : Nat) (x1 : Int32) (x2 : Int32) (x3 : Int32) (x4 : Int32) (s0 : Int32) (s1 : Int32) : Prop :=
  ∀ g11 : Int32, g11 = ((((s0 * s1) / 100) * x4) / 1000) → (50 ≤ g11 → gfa M a0 3 41 fun u12 => lda M 9 u12 x1 fun u13 => lda M 8 u13 x2 fun u14 => ldi M 0 u14 x3 fun v15 => ¬ g11 = 0 ∧ (gfa M a0 3 33 fun u16 => ldi M 0 u16 x1 fun v17 => gfa M a0 3 45 fun u18 => lda M 9 u18 v17 fun u19 => lda M 8 u19 x2 fun u20 => ldi M 0 u20 x3 fun v21 => (¬ v21 = (-1) → wb_X4_tell_151 G P r M a0 x2 x3 v15 ((((v15 + 1) * 1000) - 1) / g11) v17 0) ∧ (v21 = (-1) → wb_X4_tell_151 G P r M a0 x2 x3 v15 ((((v15 + 1) * 1000) - 1) / g11) v17 1))) ∧ (¬ 50 ≤ g11 → P M)
def wp_X4_tell (G : mG) (b : Nat) (P : mM → Prop) (M : mM) (a0 : Nat) (x1 : Int32) (x2 : Int32) (x3 : Int32) (x4 : Int32) : Prop :=
  gfa M a0 3 31 fun u1 => ldi M 0 u1 x1 fun v2 => isc M a0 3 ∧ (wp_X4_far G 0 (fun v4 M3 => (v4 ≤ 3 → gfa M3 a0 3 32 fun u5 => ldi M3 0 u5 x1 fun v6 => gfa M3 a0 3 4 fun u7 => ldi M3 0 u7 x2 fun v8 => isc M3 a0 3 ∧ (wr_X4_curveOf 5 G 0 (fun v10 M9 => (¬ v6 = 0 → (¬ v6 = 1 → (¬ v6 = 2 → wb_X4_tell_75 G P b M9 a0 x1 x2 x3 x4 v10 40) ∧ (v6 = 2 → wb_X4_tell_75 G P b M9 a0 x1 x2 x3 x4 v10 90)) ∧ (v6 = 1 → wb_X4_tell_75 G P b M9 a0 x1 x2 x3 x4 v10 80)) ∧ (v6 = 0 → wb_X4_tell_75 G P b M9 a0 x1 x2 x3 x4 v10 100)) M3 a0 x3 v8 v4)) ∧ (¬ v4 ≤ 3 → P M3)) M a0 v2 x2)
set_option maxHeartbeats 4000000 in
set_option maxRecDepth 100000 in
theorem wk_X4_tell {l : Launch} (hst0 : l.stackTraces = false) {G : mG} {b : Nat} {P : mM → Prop} {M : mM} {a0 : Nat} {x1 : Int32} {x2 : Int32} {x3 : Int32} {x4 : Int32} (h : wp_X4_tell G b P M a0 x1 x2 x3 x4) : mMet l yX4_tell (ws_ yX4_tell cX4_tell 12 (Option.none : Option Jvm.ClassFile.FieldType)) 16 b G [.ref a0, .int x1, .int x2, .int x3, .int x4] M (mRv P) (fun _ _ _ => False) := by
  refine mm_met hst0 (by decide) (Nat.le_of_ble_eq_true rfl) ?_
  intro p e s m args below meth c ls C hr hnt hnm hl S
  have hl : lv_has ls 12 [(0, .ref a0), (1, .int x1), (2, .int x2), (3, .int x3), (4, .int x4)] := hl
  generalize mA M s.heap.size = A at C S ⊢
  have hx := C.hx
  have hb := C.hb
  have hk : 0 + b ≤ b := Nat.le_of_eq (Nat.zero_add b)
  have j216 : ∀ (k r : Nat) (M : mM) (H : Heap) (locs : List Loc) (ls : Array Slot) (s0 : Nat) (s1 : Int32) (s2 : Int32), k + r ≤ b → mW G A s M H locs → lv_has ls 12 [] → wb_X4_tell_216 G P r M s0 s1 s2 → W p l e (mRm 16 b) s m args below meth c H locs k k (vx_MQ below (mQ G A (mRv P)) (mXC G A (fun _ _ _ => False)) args s b b A) (F0 m 216 ls [.int s2, .int s1, .ref s0]) := by
    intro k r M H locs ls s0 s1 s2 hk S hl h
    unfold wb_X4_tell_216 at h
    refine mm_iast C S h dX4_tell_216 (fun M39 H locs h S => ?_)
    exact mm_vret C S hr (Nat.le_trans (Nat.le_add_right _ _) hk) dX4_tell_217 h
  have j151 : ∀ (k r : Nat) (M : mM) (H : Heap) (locs : List Loc) (ls : Array Slot) (a0 : Nat) (x2 : Int32) (x3 : Int32) (x8 : Int32) (x9 : Int32) (x10 : Int32) (s0 : Int32), k + r ≤ b → mW G A s M H locs → lv_has ls 12 [(0, .ref a0), (2, .int x2), (3, .int x3), (8, .int x8), (9, .int x9), (10, .int x10)] → wb_X4_tell_151 G P r M a0 x2 x3 x8 x9 x10 s0 → W p l e (mRm 16 b) s m args below meth c H locs k k (vx_MQ below (mQ G A (mRv P)) (mXC G A (fun _ _ _ => False)) args s b b A) (F0 m 151 ls [.int s0]) := by
    intro k r M H locs ls a0 x2 x3 x8 x9 x10 s0 hk S hl h
    unfold wb_X4_tell_151 at h
    refine lv_istore (lv' := [(11, .int s0), (0, .ref a0), (2, .int x2), (3, .int x3), (8, .int x8), (9, .int x9), (10, .int x10)]) hx hb dX4_tell_151 hl (by decide) rfl (fun ls hl => ?_)
    refine lv_aload_n hx hb dX4_tell_153 rfl (lv_at hl 1 rfl) ?_
    refine mm_gfa C S (ci := 3) (k := 45) rfl in_X4 (by decide) q1715 (fun _ h9 => h9) dX4_tell_154 h (fun u22 h => ?_)
    refine lv_iload hx hb dX4_tell_157 (lv_at hl 6 rfl) ?_
    refine mm_aald C S (t := 9) rfl rfl h dX4_tell_159 (fun u23 h => ?_)
    refine lv_iload_n hx hb dX4_tell_160 rfl (lv_at hl 2 rfl) ?_
    refine mm_aald C S (t := 8) rfl rfl h dX4_tell_161 (fun u24 h => ?_)
    refine lv_iload_n hx hb dX4_tell_162 rfl (lv_at hl 3 rfl) ?_
    refine lv_aload_n hx hb dX4_tell_163 rfl (lv_at hl 1 rfl) ?_
    refine mm_gfa C S (ci := 3) (k := 45) rfl in_X4 (by decide) q1715 (fun _ h9 => h9) dX4_tell_164 h (fun u25 h => ?_)
    refine lv_iload hx hb dX4_tell_167 (lv_at hl 6 rfl) ?_
    refine mm_aald C S (t := 9) rfl rfl h dX4_tell_169 (fun u26 h => ?_)
    refine lv_iload_n hx hb dX4_tell_170 rfl (lv_at hl 2 rfl) ?_
    refine mm_aald C S (t := 8) rfl rfl h dX4_tell_171 (fun u27 h => ?_)
    refine lv_iload_n hx hb dX4_tell_172 rfl (lv_at hl 3 rfl) ?_
    refine mm_iald C S h dX4_tell_173 (fun v28 h => ?_)
    refine lv_iload hx hb dX4_tell_174 (lv_at hl 4 rfl) ?_
    refine mm_max C hl.1 q1880 q328 q68 q329 (Nat.le_of_ble_eq_true rfl) (Nat.le_of_ble_eq_true rfl) (Nat.le_trans (Nat.le_add_right _ _) hk) (Nat.le_trans (Nat.le_add_right _ _) hk) dX4_tell_176 ?_
    refine lv_topi (fun g29 eg29 => ?_)
    have h := h g29 eg29
    refine mm_iast C S h dX4_tell_179 (fun M30 H locs h S => ?_)
    refine lv_aload_n hx hb dX4_tell_180 rfl (lv_at hl 1 rfl) ?_
    refine mm_gfa C S (ci := 3) (k := 46) rfl in_X4 (by decide) q1716 (fun _ h9 => h9) dX4_tell_181 h (fun u31 h => ?_)
    refine lv_iload hx hb dX4_tell_184 (lv_at hl 6 rfl) ?_
    refine mm_aald C S (t := 9) rfl rfl h dX4_tell_186 (fun u32 h => ?_)
    refine lv_iload_n hx hb dX4_tell_187 rfl (lv_at hl 2 rfl) ?_
    refine mm_aald C S (t := 8) rfl rfl h dX4_tell_188 (fun u33 h => ?_)
    refine lv_iload_n hx hb dX4_tell_189 rfl (lv_at hl 3 rfl) ?_
    refine lv_iload hx hb dX4_tell_190 (lv_at hl 0 rfl) ?_
    refine lv_if_eq (tgt := 200) hx hb dX4_tell_192 (by decide) (fun c9 => ?_) (fun c9 => ?_)
    · have h := h.1 c9
      refine lv_aload_n hx hb dX4_tell_200 rfl (lv_at hl 1 rfl) ?_
      refine mm_gfa C S (ci := 3) (k := 46) rfl in_X4 (by decide) q1716 (fun _ h9 => h9) dX4_tell_201 h (fun u34 h => ?_)
      refine lv_iload hx hb dX4_tell_204 (lv_at hl 6 rfl) ?_
      refine mm_aald C S (t := 9) rfl rfl h dX4_tell_206 (fun u35 h => ?_)
      refine lv_iload_n hx hb dX4_tell_207 rfl (lv_at hl 2 rfl) ?_
      refine mm_aald C S (t := 8) rfl rfl h dX4_tell_208 (fun u36 h => ?_)
      refine lv_iload_n hx hb dX4_tell_209 rfl (lv_at hl 3 rfl) ?_
      refine mm_iald C S h dX4_tell_210 (fun v37 h => ?_)
      refine lv_iload hx hb dX4_tell_211 (lv_at hl 5 rfl) ?_
      refine mm_min C hl.1 q1879 q331 q68 q332 (Nat.le_of_ble_eq_true rfl) (Nat.le_of_ble_eq_true rfl) (Nat.le_trans (Nat.le_add_right _ _) hk) (Nat.le_trans (Nat.le_add_right _ _) hk) dX4_tell_213 ?_
      refine lv_topi (fun g38 eg38 => ?_)
      have h := h g38 eg38
      exact j216 _ _ _ _ _ _ _ _ _ hk S (lv_sub hl [] rfl) h
    · have h := h.2 c9
      refine lv_iload hx hb dX4_tell_195 (lv_at hl 5 rfl) ?_
      refine lv_goto (tgt := 216) hx hb dX4_tell_197 (by decide) ?_
      exact j216 _ _ _ _ _ _ _ _ _ hk S (lv_sub hl [] rfl) h
  have j75 : ∀ (k r : Nat) (M : mM) (H : Heap) (locs : List Loc) (ls : Array Slot) (a0 : Nat) (x1 : Int32) (x2 : Int32) (x3 : Int32) (x4 : Int32) (s0 : Int32) (s1 : Int32), k + r ≤ b → mW G A s M H locs → lv_has ls 12 [(0, .ref a0), (1, .int x1), (2, .int x2), (3, .int x3), (4, .int x4)] → wb_X4_tell_75 G P r M a0 x1 x2 x3 x4 s0 s1 → W p l e (mRm 16 b) s m args below meth c H locs k k (vx_MQ below (mQ G A (mRv P)) (mXC G A (fun _ _ _ => False)) args s b b A) (F0 m 75 ls [.int s1, .int s0]) := by
    intro k r M H locs ls a0 x1 x2 x3 x4 s0 s1 hk S hl h
    unfold wb_X4_tell_75 at h
    refine lv_imul hx hb dX4_tell_75 ?_
    refine lv_bipush (v := 100) hx hb dX4_tell_76 (by decide) ?_
    refine lv_idiv hx hb dX4_tell_78 (by decide) ?_
    refine lv_iload hx hb dX4_tell_79 (lv_at hl 4 rfl) ?_
    refine lv_imul hx hb dX4_tell_81 ?_
    refine lv_sipush (v := 1000) hx hb dX4_tell_82 (by decide) ?_
    refine lv_idiv hx hb dX4_tell_85 (by decide) ?_
    refine lv_topi (fun g11 eg11 => ?_)
    have h := h g11 eg11
    refine lv_istore (lv' := [(7, .int g11), (0, .ref a0), (1, .int x1), (2, .int x2), (3, .int x3), (4, .int x4)]) hx hb dX4_tell_86 hl (by decide) rfl (fun ls hl => ?_)
    refine lv_iload hx hb dX4_tell_88 (lv_at hl 0 rfl) ?_
    refine lv_bipush (v := 50) hx hb dX4_tell_90 (by decide) ?_
    refine lv_icmp_ge (tgt := 96) hx hb dX4_tell_92 (by decide) (fun c9 => ?_) (fun c9 => ?_)
    · have h := h.1 c9
      refine lv_aload_n hx hb dX4_tell_96 rfl (lv_at hl 1 rfl) ?_
      refine mm_gfa C S (ci := 3) (k := 41) rfl in_X4 (by decide) q1711 (fun _ h9 => h9) dX4_tell_97 h (fun u12 h => ?_)
      refine lv_iload_n hx hb dX4_tell_100 rfl (lv_at hl 2 rfl) ?_
      refine mm_aald C S (t := 9) rfl rfl h dX4_tell_101 (fun u13 h => ?_)
      refine lv_iload_n hx hb dX4_tell_102 rfl (lv_at hl 3 rfl) ?_
      refine mm_aald C S (t := 8) rfl rfl h dX4_tell_103 (fun u14 h => ?_)
      refine lv_iload_n hx hb dX4_tell_104 rfl (lv_at hl 4 rfl) ?_
      refine mm_iald C S h dX4_tell_105 (fun v15 h => ?_)
      refine lv_istore (lv' := [(8, .int v15), (7, .int g11), (0, .ref a0), (1, .int x1), (2, .int x2), (3, .int x3), (4, .int x4)]) hx hb dX4_tell_106 hl (by decide) rfl (fun ls hl => ?_)
      refine lv_iload hx hb dX4_tell_108 (lv_at hl 0 rfl) ?_
      refine lv_iconst (v := 1) hx hb dX4_tell_110 (by decide) ?_
      refine lv_iadd hx hb dX4_tell_111 ?_
      refine lv_sipush (v := 1000) hx hb dX4_tell_112 (by decide) ?_
      refine lv_imul hx hb dX4_tell_115 ?_
      refine lv_iconst (v := 1) hx hb dX4_tell_116 (by decide) ?_
      refine lv_isub hx hb dX4_tell_117 ?_
      refine lv_iload hx hb dX4_tell_118 (lv_at hl 1 rfl) ?_
      refine lv_idiv hx hb dX4_tell_120 h.1 ?_
      have h := h.2
      refine lv_istore (lv' := [(9, .int ((((v15 + 1) * 1000) - 1) / g11)), (8, .int v15), (7, .int g11), (0, .ref a0), (1, .int x1), (2, .int x2), (3, .int x3), (4, .int x4)]) hx hb dX4_tell_121 hl (by decide) rfl (fun ls hl => ?_)
      refine lv_aload_n hx hb dX4_tell_123 rfl (lv_at hl 3 rfl) ?_
      refine mm_gfa C S (ci := 3) (k := 33) rfl in_X4 (by decide) q1703 (fun _ h9 => h9) dX4_tell_124 h (fun u16 h => ?_)
      refine lv_iload_n hx hb dX4_tell_127 rfl (lv_at hl 4 rfl) ?_
      refine mm_iald C S h dX4_tell_128 (fun v17 h => ?_)
      refine lv_istore (lv' := [(10, .int v17), (9, .int ((((v15 + 1) * 1000) - 1) / g11)), (8, .int v15), (7, .int g11), (0, .ref a0), (1, .int x1), (2, .int x2), (3, .int x3), (4, .int x4)]) hx hb dX4_tell_129 hl (by decide) rfl (fun ls hl => ?_)
      refine lv_aload_n hx hb dX4_tell_131 rfl (lv_at hl 4 rfl) ?_
      refine mm_gfa C S (ci := 3) (k := 45) rfl in_X4 (by decide) q1715 (fun _ h9 => h9) dX4_tell_132 h (fun u18 h => ?_)
      refine lv_iload hx hb dX4_tell_135 (lv_at hl 0 rfl) ?_
      refine mm_aald C S (t := 9) rfl rfl h dX4_tell_137 (fun u19 h => ?_)
      refine lv_iload_n hx hb dX4_tell_138 rfl (lv_at hl 6 rfl) ?_
      refine mm_aald C S (t := 8) rfl rfl h dX4_tell_139 (fun u20 h => ?_)
      refine lv_iload_n hx hb dX4_tell_140 rfl (lv_at hl 7 rfl) ?_
      refine mm_iald C S h dX4_tell_141 (fun v21 h => ?_)
      refine lv_iconst (v := (-1)) hx hb dX4_tell_142 (by decide) ?_
      refine lv_icmp_ne (tgt := 150) hx hb dX4_tell_143 (by decide) (fun c9 => ?_) (fun c9 => ?_)
      · have h := h.1 c9
        refine lv_iconst (v := 0) hx hb dX4_tell_150 (by decide) ?_
        exact j151 _ _ _ _ _ _ _ _ _ _ _ _ _ hk S (lv_sub hl [4, 6, 7, 2, 1, 0] rfl) h
      · have h := h.2 c9
        refine lv_iconst (v := 1) hx hb dX4_tell_146 (by decide) ?_
        refine lv_goto (tgt := 151) hx hb dX4_tell_147 (by decide) ?_
        exact j151 _ _ _ _ _ _ _ _ _ _ _ _ _ hk S (lv_sub hl [4, 6, 7, 2, 1, 0] rfl) h
    · have h := h.2 c9
      exact mm_vret C S hr (Nat.le_trans (Nat.le_add_right _ _) hk) dX4_tell_95 h
  unfold wp_X4_tell at h
  refine lv_aload_n hx hb dX4_tell_0 rfl (lv_at hl 0 rfl) ?_
  refine lv_aload_n hx hb dX4_tell_1 rfl (lv_at hl 0 rfl) ?_
  refine mm_gfa C S (ci := 3) (k := 31) rfl in_X4 (by decide) q1701 (fun _ h9 => h9) dX4_tell_2 h (fun u1 h => ?_)
  refine lv_iload_n hx hb dX4_tell_5 rfl (lv_at hl 1 rfl) ?_
  refine mm_iald C S h dX4_tell_6 (fun v2 h => ?_)
  refine lv_iload_n hx hb dX4_tell_7 rfl (lv_at hl 2 rfl) ?_
  obtain ⟨hI, h⟩ := h
  refine mm_V (As := [.int v2, .int x2]) (rest := []) C S hl.1 (wk_X4_far hst0 h) (T := TX4) rfl hI (lw_V q1961 q1963 qs37 q58 q1964) rfl pd_X4_far ⟨Nat.le_of_ble_eq_true rfl, Nat.le_of_ble_eq_true rfl⟩ rfl rfl (Nat.le_of_ble_eq_true rfl) dX4_tell_8 rfl rfl hk (Nat.zero_add _) (fun v9 M3 H locs hP S hk => ?_) (fun E q ce M9 H9 locs9 hX => hX.elim)
  obtain ⟨v4, rfl, h⟩ := hP
  refine W.eq (g2 := F0 m 11 ls [.int v4]) rfl ?_
  refine lv_istore (lv' := [(5, .int v4), (0, .ref a0), (1, .int x1), (2, .int x2), (3, .int x3), (4, .int x4)]) hx hb dX4_tell_11 hl (by decide) rfl (fun ls hl => ?_)
  refine lv_iload hx hb dX4_tell_13 (lv_at hl 0 rfl) ?_
  refine lv_iconst (v := 3) hx hb dX4_tell_15 (by decide) ?_
  refine lv_icmp_le (tgt := 20) hx hb dX4_tell_16 (by decide) (fun c9 => ?_) (fun c9 => ?_)
  · have h := h.1 c9
    refine lv_aload_n hx hb dX4_tell_20 rfl (lv_at hl 1 rfl) ?_
    refine mm_gfa C S (ci := 3) (k := 32) rfl in_X4 (by decide) q1702 (fun _ h9 => h9) dX4_tell_21 h (fun u5 h => ?_)
    refine lv_iload_n hx hb dX4_tell_24 rfl (lv_at hl 2 rfl) ?_
    refine mm_iald C S h dX4_tell_25 (fun v6 h => ?_)
    refine lv_istore (lv' := [(6, .int v6), (5, .int v4), (0, .ref a0), (1, .int x1), (2, .int x2), (3, .int x3), (4, .int x4)]) hx hb dX4_tell_26 hl (by decide) rfl (fun ls hl => ?_)
    refine lv_aload_n hx hb dX4_tell_28 rfl (lv_at hl 2 rfl) ?_
    refine lv_iload_n hx hb dX4_tell_29 rfl (lv_at hl 5 rfl) ?_
    refine lv_aload_n hx hb dX4_tell_30 rfl (lv_at hl 2 rfl) ?_
    refine mm_gfa C S (ci := 3) (k := 4) rfl in_X4 (by decide) q1674 (fun _ h9 => h9) dX4_tell_31 h (fun u7 h => ?_)
    refine lv_iload_n hx hb dX4_tell_34 rfl (lv_at hl 4 rfl) ?_
    refine mm_iald C S h dX4_tell_35 (fun v8 h => ?_)
    refine lv_iload hx hb dX4_tell_36 (lv_at hl 1 rfl) ?_
    obtain ⟨hI, h⟩ := h
    refine mm_V (As := [.int x3, .int v8, .int v4]) (rest := []) C S hl.1 (wk_X4_curveOf hst0 h) (T := TX4) rfl hI (lw_V q2020 q2022 qs45 q58 q2023) rfl pd_X4_curveOf ⟨Nat.le_of_ble_eq_true rfl, Nat.le_of_ble_eq_true rfl⟩ rfl rfl (Nat.le_of_ble_eq_true rfl) dX4_tell_38 rfl rfl hk (Nat.zero_add _) (fun v9 M9 H locs hP S hk => ?_) (fun E q ce M9 H9 locs9 hX => hX.elim)
    obtain ⟨v10, rfl, h⟩ := hP
    refine W.eq (g2 := F0 m 41 ls [.int v10]) rfl ?_
    refine lv_iload hx hb dX4_tell_41 (lv_at hl 0 rfl) ?_
    refine lv_if_ne (tgt := 51) hx hb dX4_tell_43 (by decide) (fun c9 => ?_) (fun c9 => ?_)
    · have h := h.1 c9
      refine lv_iload hx hb dX4_tell_51 (lv_at hl 0 rfl) ?_
      refine lv_iconst (v := 1) hx hb dX4_tell_53 (by decide) ?_
      refine lv_icmp_ne (tgt := 62) hx hb dX4_tell_54 (by decide) (fun c9 => ?_) (fun c9 => ?_)
      · have h := h.1 c9
        refine lv_iload hx hb dX4_tell_62 (lv_at hl 0 rfl) ?_
        refine lv_iconst (v := 2) hx hb dX4_tell_64 (by decide) ?_
        refine lv_icmp_ne (tgt := 73) hx hb dX4_tell_65 (by decide) (fun c9 => ?_) (fun c9 => ?_)
        · have h := h.1 c9
          refine lv_bipush (v := 40) hx hb dX4_tell_73 (by decide) ?_
          exact j75 _ _ _ _ _ _ _ _ _ _ _ _ _ hk S (lv_sub hl [2, 3, 4, 5, 6] rfl) h
        · have h := h.2 c9
          refine lv_bipush (v := 90) hx hb dX4_tell_68 (by decide) ?_
          refine lv_goto (tgt := 75) hx hb dX4_tell_70 (by decide) ?_
          exact j75 _ _ _ _ _ _ _ _ _ _ _ _ _ hk S (lv_sub hl [2, 3, 4, 5, 6] rfl) h
      · have h := h.2 c9
        refine lv_bipush (v := 80) hx hb dX4_tell_57 (by decide) ?_
        refine lv_goto (tgt := 75) hx hb dX4_tell_59 (by decide) ?_
        exact j75 _ _ _ _ _ _ _ _ _ _ _ _ _ hk S (lv_sub hl [2, 3, 4, 5, 6] rfl) h
    · have h := h.2 c9
      refine lv_bipush (v := 100) hx hb dX4_tell_46 (by decide) ?_
      refine lv_goto (tgt := 75) hx hb dX4_tell_48 (by decide) ?_
      exact j75 _ _ _ _ _ _ _ _ _ _ _ _ _ hk S (lv_sub hl [2, 3, 4, 5, 6] rfl) h
  · have h := h.2 c9
    exact mm_vret C S hr (Nat.le_trans (Nat.le_add_right _ _) hk) dX4_tell_19 h
/-! X4_end: level 17 -/
def wb_X4_end_159 (G : mG) (P : Int32 → mM → Prop) (r : Nat) (M : mM) (x3 : Int32) (s0 : Nat) (s1 : Int32) (s2 : Int32) : Prop :=
  sti M 0 s0 s1 s2 fun M20 => P x3 M20
def wb_X4_end_145 (G : mG) (P : Int32 → mM → Prop) (r : Nat) (M : mM) (a0 : Nat) (x1 : Int32) (x2 : Int32) (x3 : Int32) : Prop :=
  gfa M a0 3 34 fun u18 => (x2 = 0 → wb_X4_end_159 G P r M x3 u18 x1 1) ∧ (¬ x2 = 0 → wb_X4_end_159 G P r M x3 u18 x1 2)
def wl_X4_end_111 (G : mG) (P : Int32 → mM → Prop) (K101 : Nat → mM → Nat → Int32 → Int32 → Int32 → Int32 → Int32 → Prop) : Nat → Nat → mM → Nat → Int32 → Int32 → Int32 → Int32 → Int32 → Int32 → Prop
  | 0, _, _, _, _, _, _, _, _, _ => False
  | n + 1, r, M, a0, x1, x2, x3, x4, x5, x6 => (4 ≤ x6 → K101 r M a0 x1 x2 x3 x4 (x5 + 1)) ∧ (¬ 4 ≤ x6 → isc M a0 3 ∧ (wp_X4_tell G 0 (fun M21 => (wl_X4_end_111 G P K101 n) r M21 a0 x1 x2 x3 x4 x5 (x6 + 1)) M a0 x1 x5 x6 x4))
def wl_X4_end_101 (G : mG) (P : Int32 → mM → Prop) : Nat → Nat → mM → Nat → Int32 → Int32 → Int32 → Int32 → Int32 → Prop
  | 0, _, _, _, _, _, _, _, _ => False
  | n + 1, r, M, a0, x1, x2, x3, x4, x5 => (36 ≤ x5 → isc M a0 3 ∧ (wp_X4_add G 0 (fun M19 => wb_X4_end_145 G P r M19 a0 x1 x2 x3) M a0 x1)) ∧ (¬ 36 ≤ x5 → ∃ n111, wl_X4_end_111 G P (wl_X4_end_101 G P n) n111 r M a0 x1 x2 x3 x4 x5 0)
def wb_X4_end_88 (G : mG) (P : Int32 → mM → Prop) (K58 : Nat → mM → Nat → Int32 → Int32 → Int32 → Int32 → Int32 → Prop) (r : Nat) (M : mM) (a0 : Nat) (x1 : Int32) (x2 : Int32) (x3 : Int32) (x4 : Int32) (x5 : Int32) : Prop :=
  K58 r M a0 x1 x2 x3 x4 (x5 + 1)
def wl_X4_end_58 (G : mG) (P : Int32 → mM → Prop) : Nat → Nat → mM → Nat → Int32 → Int32 → Int32 → Int32 → Int32 → Prop
  | 0, _, _, _, _, _, _, _, _ => False
  | n + 1, r, M, a0, x1, x2, x3, x4, x5 => gfi M a0 3 29 fun v13 => (v13 ≤ x5 → (¬ x2 = 0 → wb_X4_end_145 G P r M a0 x1 x2 x3) ∧ (x2 = 0 → ∃ n101, wl_X4_end_101 G P n101 r M a0 x1 x2 x3 x4 0)) ∧ (¬ v13 ≤ x5 → gfa M a0 3 36 fun u14 => ldi M 0 u14 x5 fun v15 => (¬ v15 = x1 → wb_X4_end_88 G P (wl_X4_end_58 G P n) r M a0 x1 x2 x3 x4 x5) ∧ (v15 = x1 → gfa M a0 3 40 fun u16 => ldi M 0 u16 x5 fun v17 => wb_X4_end_88 G P (wl_X4_end_58 G P n) r M a0 x1 x2 (x3 + v17) x4 x5))
def wb_X4_end_32 (G : mG) (P : Int32 → mM → Prop) (r : Nat) (M : mM) (a0 : Nat) (x1 : Int32) (x2 : Int32) (s0 : Nat) (s1 : Int32) (s2 : Int32) : Prop :=
  isc M s0 3 ∧ (wp_X4_fails G 0 (fun v8 M7 => (v8 = 0 → gfa M7 a0 3 30 fun u9 => ldi M7 0 u9 x1 fun v10 => isc M7 a0 3 ∧ (wp_X4_shareOf G 0 (fun v12 M11 => ∃ n58, wl_X4_end_58 G P n58 r M11 a0 x1 x2 0 v12 0) M7 a0 v10)) ∧ (¬ v8 = 0 → P 0 M7)) M s0 s1 s2 0)
def wp_X4_end (G : mG) (b : Nat) (P : Int32 → mM → Prop) (M : mM) (a0 : Nat) (x1 : Int32) (x2 : Int32) : Prop :=
  isc M a0 3 ∧ (wp_X4_noWalk G 0 (fun v2 M1 => isc M1 a0 3 ∧ (wp_X4_fails G 0 (fun v4 M3 => (v4 = 0 → gfa M3 a0 3 34 fun u5 => ldi M3 0 u5 x1 fun v6 => (v6 = 0 → wb_X4_end_32 G P b M3 a0 x1 x2 a0 0 0) ∧ (¬ v6 = 0 → wb_X4_end_32 G P b M3 a0 x1 x2 a0 0 1)) ∧ (¬ v4 = 0 → P 0 M3)) M1 a0 v2 0 0)) M a0 x1)
set_option maxHeartbeats 4000000 in
set_option maxRecDepth 100000 in
theorem wk_X4_end {l : Launch} (hst0 : l.stackTraces = false) {G : mG} {b : Nat} {P : Int32 → mM → Prop} {M : mM} {a0 : Nat} {x1 : Int32} {x2 : Int32} (h : wp_X4_end G b P M a0 x1 x2) : mMet l yX4_end (ws_ yX4_end cX4_end 7 (Option.some Jvm.ClassFile.FieldType.int)) 17 b G [.ref a0, .int x1, .int x2] M (mRi P) (fun _ _ _ => False) := by
  refine mm_met hst0 (by decide) (Nat.le_of_ble_eq_true rfl) ?_
  intro p e s m args below meth c ls C hr hnt hnm hl S
  have hl : lv_has ls 7 [(0, .ref a0), (1, .int x1), (2, .int x2)] := hl
  generalize mA M s.heap.size = A at C S ⊢
  have hx := C.hx
  have hb := C.hb
  have hk : 0 + b ≤ b := Nat.le_of_eq (Nat.zero_add b)
  have j159 : ∀ (k r : Nat) (M : mM) (H : Heap) (locs : List Loc) (ls : Array Slot) (x3 : Int32) (s0 : Nat) (s1 : Int32) (s2 : Int32), k + r ≤ b → mW G A s M H locs → lv_has ls 7 [(3, .int x3)] → wb_X4_end_159 G P r M x3 s0 s1 s2 → W p l e (mRm 17 b) s m args below meth c H locs k k (vx_MQ below (mQ G A (mRi P)) (mXC G A (fun _ _ _ => False)) args s b b A) (F0 m 159 ls [.int s2, .int s1, .ref s0]) := by
    intro k r M H locs ls x3 s0 s1 s2 hk S hl h
    unfold wb_X4_end_159 at h
    refine mm_iast C S h dX4_end_159 (fun M20 H locs h S => ?_)
    refine lv_iload_n hx hb dX4_end_160 rfl (lv_at hl 0 rfl) ?_
    exact mm_iret C S hr (Nat.le_trans (Nat.le_add_right _ _) hk) dX4_end_161 h
  have j145 : ∀ (k r : Nat) (M : mM) (H : Heap) (locs : List Loc) (ls : Array Slot) (a0 : Nat) (x1 : Int32) (x2 : Int32) (x3 : Int32), k + r ≤ b → mW G A s M H locs → lv_has ls 7 [(0, .ref a0), (1, .int x1), (2, .int x2), (3, .int x3)] → wb_X4_end_145 G P r M a0 x1 x2 x3 → W p l e (mRm 17 b) s m args below meth c H locs k k (vx_MQ below (mQ G A (mRi P)) (mXC G A (fun _ _ _ => False)) args s b b A) (F0 m 145 ls []) := by
    intro k r M H locs ls a0 x1 x2 x3 hk S hl h
    unfold wb_X4_end_145 at h
    refine lv_aload_n hx hb dX4_end_145 rfl (lv_at hl 0 rfl) ?_
    refine mm_gfa C S (ci := 3) (k := 34) rfl in_X4 (by decide) q1704 (fun _ h9 => h9) dX4_end_146 h (fun u18 h => ?_)
    refine lv_iload_n hx hb dX4_end_149 rfl (lv_at hl 1 rfl) ?_
    refine lv_iload_n hx hb dX4_end_150 rfl (lv_at hl 2 rfl) ?_
    refine lv_if_eq (tgt := 158) hx hb dX4_end_151 (by decide) (fun c9 => ?_) (fun c9 => ?_)
    · have h := h.1 c9
      refine lv_iconst (v := 1) hx hb dX4_end_158 (by decide) ?_
      exact j159 _ _ _ _ _ _ _ _ _ _ hk S (lv_sub hl [3] rfl) h
    · have h := h.2 c9
      refine lv_iconst (v := 2) hx hb dX4_end_154 (by decide) ?_
      refine lv_goto (tgt := 159) hx hb dX4_end_155 (by decide) ?_
      exact j159 _ _ _ _ _ _ _ _ _ _ hk S (lv_sub hl [3] rfl) h
  have j101 : ∀ (nf : Nat) (k r : Nat) (M : mM) (H : Heap) (locs : List Loc) (ls : Array Slot) (a0 : Nat) (x1 : Int32) (x2 : Int32) (x3 : Int32) (x4 : Int32) (x5 : Int32), k + r ≤ b → mW G A s M H locs → lv_has ls 7 [(0, .ref a0), (1, .int x1), (2, .int x2), (3, .int x3), (4, .int x4), (5, .int x5)] → wl_X4_end_101 G P nf r M a0 x1 x2 x3 x4 x5 → W p l e (mRm 17 b) s m args below meth c H locs k k (vx_MQ below (mQ G A (mRi P)) (mXC G A (fun _ _ _ => False)) args s b b A) (F0 m 101 ls []) := by
    intro nf
    induction nf with
    | zero =>
      intro k r M H locs ls a0 x1 x2 x3 x4 x5 hk S hl h
      rw [wl_X4_end_101] at h
      exact h.elim
    | succ n101 ih101 =>
      have j111 : ∀ (nf : Nat) (k r : Nat) (M : mM) (H : Heap) (locs : List Loc) (ls : Array Slot) (a0 : Nat) (x1 : Int32) (x2 : Int32) (x3 : Int32) (x4 : Int32) (x5 : Int32) (x6 : Int32), k + r ≤ b → mW G A s M H locs → lv_has ls 7 [(0, .ref a0), (1, .int x1), (2, .int x2), (3, .int x3), (4, .int x4), (5, .int x5), (6, .int x6)] → wl_X4_end_111 G P (wl_X4_end_101 G P n101) nf r M a0 x1 x2 x3 x4 x5 x6 → W p l e (mRm 17 b) s m args below meth c H locs k k (vx_MQ below (mQ G A (mRi P)) (mXC G A (fun _ _ _ => False)) args s b b A) (F0 m 111 ls []) := by
        intro nf
        induction nf with
        | zero =>
          intro k r M H locs ls a0 x1 x2 x3 x4 x5 x6 hk S hl h
          rw [wl_X4_end_111] at h
          exact h.elim
        | succ n111 ih111 =>
          intro k r M H locs ls a0 x1 x2 x3 x4 x5 x6 hk S hl h
          rw [wl_X4_end_111] at h
          refine lv_iload hx hb dX4_end_111 (lv_at hl 6 rfl) ?_
          refine lv_iconst (v := 4) hx hb dX4_end_113 (by decide) ?_
          refine lv_icmp_ge (tgt := 134) hx hb dX4_end_114 (by decide) (fun c9 => ?_) (fun c9 => ?_)
          · have h := h.1 c9
            refine lv_iinc (v := (x5 + 1)) (lv' := [(5, .int (x5 + 1)), (0, .ref a0), (1, .int x1), (2, .int x2), (3, .int x3), (4, .int x4), (6, .int x6)]) hx hb dX4_end_134 hl (k := 5) rfl rfl (by decide) rfl (fun ls hl => ?_)
            refine lv_goto (tgt := 101) hx hb dX4_end_137 (by decide) ?_
            exact ih101 _ _ _ _ _ _ _ _ _ _ _ _ hk S (lv_sub hl [1, 2, 3, 4, 5, 0] rfl) h
          · have h := h.2 c9
            refine lv_aload_n hx hb dX4_end_117 rfl (lv_at hl 0 rfl) ?_
            refine lv_iload_n hx hb dX4_end_118 rfl (lv_at hl 1 rfl) ?_
            refine lv_iload hx hb dX4_end_119 (lv_at hl 5 rfl) ?_
            refine lv_iload hx hb dX4_end_121 (lv_at hl 6 rfl) ?_
            refine lv_iload hx hb dX4_end_123 (lv_at hl 4 rfl) ?_
            obtain ⟨hI, h⟩ := h
            refine mm_V (As := [.int x1, .int x5, .int x6, .int x4]) (rest := []) C S hl.1 (wk_X4_tell hst0 h) (T := TX4) rfl hI (lw_V q2016 q2018 qs44 q58 q2019) rfl pd_X4_tell ⟨Nat.le_of_ble_eq_true rfl, Nat.le_of_ble_eq_true rfl⟩ rfl rfl (Nat.le_of_ble_eq_true rfl) dX4_end_125 rfl rfl hk (Nat.zero_add _) (fun v9 M21 H locs hP S hk => ?_) (fun E q ce M9 H9 locs9 hX => hX.elim)
            obtain ⟨rfl, h⟩ := hP
            refine W.eq (g2 := F0 m 128 ls []) rfl ?_
            refine lv_iinc (v := (x6 + 1)) (lv' := [(6, .int (x6 + 1)), (0, .ref a0), (1, .int x1), (2, .int x2), (3, .int x3), (4, .int x4), (5, .int x5)]) hx hb dX4_end_128 hl (k := 6) rfl rfl (by decide) rfl (fun ls hl => ?_)
            refine lv_goto (tgt := 111) hx hb dX4_end_131 (by decide) ?_
            exact ih111 _ _ _ _ _ _ _ _ _ _ _ _ _ hk S (lv_sub hl [1, 2, 3, 4, 5, 6, 0] rfl) h
      intro k r M H locs ls a0 x1 x2 x3 x4 x5 hk S hl h
      rw [wl_X4_end_101] at h
      refine lv_iload hx hb dX4_end_101 (lv_at hl 5 rfl) ?_
      refine lv_bipush (v := 36) hx hb dX4_end_103 (by decide) ?_
      refine lv_icmp_ge (tgt := 140) hx hb dX4_end_105 (by decide) (fun c9 => ?_) (fun c9 => ?_)
      · have h := h.1 c9
        refine lv_aload_n hx hb dX4_end_140 rfl (lv_at hl 0 rfl) ?_
        refine lv_iload_n hx hb dX4_end_141 rfl (lv_at hl 1 rfl) ?_
        obtain ⟨hI, h⟩ := h
        refine mm_V (As := [.int x1]) (rest := []) C S hl.1 (wk_X4_add hst0 h) (T := TX4) rfl hI (lw_V q2025 q2027 qs46 q58 q2028) rfl pd_X4_add ⟨Nat.le_of_ble_eq_true rfl, Nat.le_of_ble_eq_true rfl⟩ rfl rfl (Nat.le_of_ble_eq_true rfl) dX4_end_142 rfl rfl hk (Nat.zero_add _) (fun v9 M19 H locs hP S hk => ?_) (fun E q ce M9 H9 locs9 hX => hX.elim)
        obtain ⟨rfl, h⟩ := hP
        refine W.eq (g2 := F0 m 145 ls []) rfl ?_
        exact j145 _ _ _ _ _ _ _ _ _ _ hk S (lv_sub hl [0, 1, 2, 3] rfl) h
      · have h := h.2 c9
        refine lv_iconst (v := 0) hx hb dX4_end_108 (by decide) ?_
        refine lv_istore (lv' := [(6, .int 0), (0, .ref a0), (1, .int x1), (2, .int x2), (3, .int x3), (4, .int x4), (5, .int x5)]) hx hb dX4_end_109 hl (by decide) rfl (fun ls hl => ?_)
        obtain ⟨nf, h⟩ := h
        exact j111 nf _ _ _ _ _ _ _ _ _ _ _ _ _ hk S (lv_sub hl [1, 2, 3, 4, 5, 6, 0] rfl) h
  have j58 : ∀ (nf : Nat) (k r : Nat) (M : mM) (H : Heap) (locs : List Loc) (ls : Array Slot) (a0 : Nat) (x1 : Int32) (x2 : Int32) (x3 : Int32) (x4 : Int32) (x5 : Int32), k + r ≤ b → mW G A s M H locs → lv_has ls 7 [(0, .ref a0), (1, .int x1), (2, .int x2), (3, .int x3), (4, .int x4), (5, .int x5)] → wl_X4_end_58 G P nf r M a0 x1 x2 x3 x4 x5 → W p l e (mRm 17 b) s m args below meth c H locs k k (vx_MQ below (mQ G A (mRi P)) (mXC G A (fun _ _ _ => False)) args s b b A) (F0 m 58 ls []) := by
    intro nf
    induction nf with
    | zero =>
      intro k r M H locs ls a0 x1 x2 x3 x4 x5 hk S hl h
      rw [wl_X4_end_58] at h
      exact h.elim
    | succ n58 ih58 =>
      have j88 : ∀ (k r : Nat) (M : mM) (H : Heap) (locs : List Loc) (ls : Array Slot) (a0 : Nat) (x1 : Int32) (x2 : Int32) (x3 : Int32) (x4 : Int32) (x5 : Int32), k + r ≤ b → mW G A s M H locs → lv_has ls 7 [(0, .ref a0), (1, .int x1), (2, .int x2), (3, .int x3), (4, .int x4), (5, .int x5)] → wb_X4_end_88 G P (wl_X4_end_58 G P n58) r M a0 x1 x2 x3 x4 x5 → W p l e (mRm 17 b) s m args below meth c H locs k k (vx_MQ below (mQ G A (mRi P)) (mXC G A (fun _ _ _ => False)) args s b b A) (F0 m 88 ls []) := by
        intro k r M H locs ls a0 x1 x2 x3 x4 x5 hk S hl h
        unfold wb_X4_end_88 at h
        refine lv_iinc (v := (x5 + 1)) (lv' := [(5, .int (x5 + 1)), (0, .ref a0), (1, .int x1), (2, .int x2), (3, .int x3), (4, .int x4)]) hx hb dX4_end_88 hl (k := 5) rfl rfl (by decide) rfl (fun ls hl => ?_)
        refine lv_goto (tgt := 58) hx hb dX4_end_91 (by decide) ?_
        exact ih58 _ _ _ _ _ _ _ _ _ _ _ _ hk S (lv_sub hl [1, 2, 3, 4, 5, 0] rfl) h
      intro k r M H locs ls a0 x1 x2 x3 x4 x5 hk S hl h
      rw [wl_X4_end_58] at h
      refine lv_iload hx hb dX4_end_58 (lv_at hl 5 rfl) ?_
      refine lv_aload_n hx hb dX4_end_60 rfl (lv_at hl 0 rfl) ?_
      refine mm_gfi C S (ci := 3) (k := 29) rfl in_X4 (by decide) q1699 (fun _ h9 => h9) dX4_end_61 h (fun v13 h => ?_)
      refine lv_icmp_ge (tgt := 94) hx hb dX4_end_64 (by decide) (fun c9 => ?_) (fun c9 => ?_)
      · have h := h.1 c9
        refine lv_iload_n hx hb dX4_end_94 rfl (lv_at hl 2 rfl) ?_
        refine lv_if_ne (tgt := 145) hx hb dX4_end_95 (by decide) (fun c9 => ?_) (fun c9 => ?_)
        · have h := h.1 c9
          exact j145 _ _ _ _ _ _ _ _ _ _ hk S (lv_sub hl [0, 1, 2, 3] rfl) h
        · have h := h.2 c9
          refine lv_iconst (v := 0) hx hb dX4_end_98 (by decide) ?_
          refine lv_istore (lv' := [(5, .int 0), (0, .ref a0), (1, .int x1), (2, .int x2), (3, .int x3), (4, .int x4)]) hx hb dX4_end_99 hl (by decide) rfl (fun ls hl => ?_)
          obtain ⟨nf, h⟩ := h
          exact j101 nf _ _ _ _ _ _ _ _ _ _ _ _ hk S (lv_sub hl [1, 2, 3, 4, 5, 0] rfl) h
      · have h := h.2 c9
        refine lv_aload_n hx hb dX4_end_67 rfl (lv_at hl 0 rfl) ?_
        refine mm_gfa C S (ci := 3) (k := 36) rfl in_X4 (by decide) q1706 (fun _ h9 => h9) dX4_end_68 h (fun u14 h => ?_)
        refine lv_iload hx hb dX4_end_71 (lv_at hl 5 rfl) ?_
        refine mm_iald C S h dX4_end_73 (fun v15 h => ?_)
        refine lv_iload_n hx hb dX4_end_74 rfl (lv_at hl 1 rfl) ?_
        refine lv_icmp_ne (tgt := 88) hx hb dX4_end_75 (by decide) (fun c9 => ?_) (fun c9 => ?_)
        · have h := h.1 c9
          exact j88 _ _ _ _ _ _ _ _ _ _ _ _ hk S hl h
        · have h := h.2 c9
          refine lv_iload_n hx hb dX4_end_78 rfl (lv_at hl 3 rfl) ?_
          refine lv_aload_n hx hb dX4_end_79 rfl (lv_at hl 0 rfl) ?_
          refine mm_gfa C S (ci := 3) (k := 40) rfl in_X4 (by decide) q1710 (fun _ h9 => h9) dX4_end_80 h (fun u16 h => ?_)
          refine lv_iload hx hb dX4_end_83 (lv_at hl 5 rfl) ?_
          refine mm_iald C S h dX4_end_85 (fun v17 h => ?_)
          refine lv_iadd hx hb dX4_end_86 ?_
          refine lv_istore_n (lv' := [(3, .int (x3 + v17)), (0, .ref a0), (1, .int x1), (2, .int x2), (4, .int x4), (5, .int x5)]) hx hb dX4_end_87 rfl hl (by decide) rfl (fun ls hl => ?_)
          exact j88 _ _ _ _ _ _ _ _ _ _ _ _ hk S (lv_sub hl [1, 2, 3, 0, 4, 5] rfl) h
  have j32 : ∀ (k r : Nat) (M : mM) (H : Heap) (locs : List Loc) (ls : Array Slot) (a0 : Nat) (x1 : Int32) (x2 : Int32) (s0 : Nat) (s1 : Int32) (s2 : Int32), k + r ≤ b → mW G A s M H locs → lv_has ls 7 [(0, .ref a0), (1, .int x1), (2, .int x2)] → wb_X4_end_32 G P r M a0 x1 x2 s0 s1 s2 → W p l e (mRm 17 b) s m args below meth c H locs k k (vx_MQ below (mQ G A (mRi P)) (mXC G A (fun _ _ _ => False)) args s b b A) (F0 m 32 ls [.int s2, .int s1, .ref s0]) := by
    intro k r M H locs ls a0 x1 x2 s0 s1 s2 hk S hl h
    unfold wb_X4_end_32 at h
    refine lv_iconst (v := 0) hx hb dX4_end_32 (by decide) ?_
    obtain ⟨hI, h⟩ := h
    refine mm_V (As := [.int s1, .int s2, .int 0]) (rest := []) C S hl.1 (wk_X4_fails hst0 h) (T := TX4) rfl hI (lw_V q1836 q1838 qs22 q58 q1839) rfl pd_X4_fails ⟨Nat.le_of_ble_eq_true rfl, Nat.le_of_ble_eq_true rfl⟩ rfl rfl (Nat.le_of_ble_eq_true rfl) dX4_end_33 rfl rfl hk (Nat.zero_add _) (fun v9 M7 H locs hP S hk => ?_) (fun E q ce M9 H9 locs9 hX => hX.elim)
    obtain ⟨v8, rfl, h⟩ := hP
    refine W.eq (g2 := F0 m 36 ls [.int v8]) rfl ?_
    refine lv_if_eq (tgt := 41) hx hb dX4_end_36 (by decide) (fun c9 => ?_) (fun c9 => ?_)
    · have h := h.1 c9
      refine lv_iconst (v := 0) hx hb dX4_end_41 (by decide) ?_
      refine lv_istore_n (lv' := [(3, .int 0), (0, .ref a0), (1, .int x1), (2, .int x2)]) hx hb dX4_end_42 rfl hl (by decide) rfl (fun ls hl => ?_)
      refine lv_aload_n hx hb dX4_end_43 rfl (lv_at hl 1 rfl) ?_
      refine lv_aload_n hx hb dX4_end_44 rfl (lv_at hl 1 rfl) ?_
      refine mm_gfa C S (ci := 3) (k := 30) rfl in_X4 (by decide) q1700 (fun _ h9 => h9) dX4_end_45 h (fun u9 h => ?_)
      refine lv_iload_n hx hb dX4_end_48 rfl (lv_at hl 2 rfl) ?_
      refine mm_iald C S h dX4_end_49 (fun v10 h => ?_)
      obtain ⟨hI, h⟩ := h
      refine mm_V (As := [.int v10]) (rest := []) C S hl.1 (wk_X4_shareOf hst0 h) (T := TX4) rfl hI (lw_V q2005 q2007 qs42 q58 q2008) rfl pd_X4_shareOf ⟨Nat.le_of_ble_eq_true rfl, Nat.le_of_ble_eq_true rfl⟩ rfl rfl (Nat.le_of_ble_eq_true rfl) dX4_end_50 rfl rfl hk (Nat.zero_add _) (fun v9 M11 H locs hP S hk => ?_) (fun E q ce M9 H9 locs9 hX => hX.elim)
      obtain ⟨v12, rfl, h⟩ := hP
      refine W.eq (g2 := F0 m 53 ls [.int v12]) rfl ?_
      refine lv_istore (lv' := [(4, .int v12), (3, .int 0), (0, .ref a0), (1, .int x1), (2, .int x2)]) hx hb dX4_end_53 hl (by decide) rfl (fun ls hl => ?_)
      refine lv_iconst (v := 0) hx hb dX4_end_55 (by decide) ?_
      refine lv_istore (lv' := [(5, .int 0), (4, .int v12), (3, .int 0), (0, .ref a0), (1, .int x1), (2, .int x2)]) hx hb dX4_end_56 hl (by decide) rfl (fun ls hl => ?_)
      obtain ⟨nf, h⟩ := h
      exact j58 nf _ _ _ _ _ _ _ _ _ _ _ _ hk S (lv_sub hl [3, 4, 5, 2, 1, 0] rfl) h
    · have h := h.2 c9
      refine lv_iconst (v := 0) hx hb dX4_end_39 (by decide) ?_
      exact mm_iret C S hr (Nat.le_trans (Nat.le_add_right _ _) hk) dX4_end_40 h
  unfold wp_X4_end at h
  refine lv_aload_n hx hb dX4_end_0 rfl (lv_at hl 0 rfl) ?_
  refine lv_aload_n hx hb dX4_end_1 rfl (lv_at hl 0 rfl) ?_
  refine lv_iload_n hx hb dX4_end_2 rfl (lv_at hl 1 rfl) ?_
  obtain ⟨hI, h⟩ := h
  refine mm_V (As := [.int x1]) (rest := [.ref a0]) C S hl.1 (wk_X4_noWalk hst0 h) (T := TX4) rfl hI (lw_V q1997 q1999 qs41 q58 q2000) rfl pd_X4_noWalk ⟨Nat.le_of_ble_eq_true rfl, Nat.le_of_ble_eq_true rfl⟩ rfl rfl (Nat.le_of_ble_eq_true rfl) dX4_end_3 rfl rfl hk (Nat.zero_add _) (fun v9 M1 H locs hP S hk => ?_) (fun E q ce M9 H9 locs9 hX => hX.elim)
  obtain ⟨v2, rfl, h⟩ := hP
  refine W.eq (g2 := F0 m 6 ls [.int v2, .ref a0]) rfl ?_
  refine lv_iconst (v := 0) hx hb dX4_end_6 (by decide) ?_
  refine lv_iconst (v := 0) hx hb dX4_end_7 (by decide) ?_
  obtain ⟨hI, h⟩ := h
  refine mm_V (As := [.int v2, .int 0, .int 0]) (rest := []) C S hl.1 (wk_X4_fails hst0 h) (T := TX4) rfl hI (lw_V q1836 q1838 qs22 q58 q1839) rfl pd_X4_fails ⟨Nat.le_of_ble_eq_true rfl, Nat.le_of_ble_eq_true rfl⟩ rfl rfl (Nat.le_of_ble_eq_true rfl) dX4_end_8 rfl rfl hk (Nat.zero_add _) (fun v9 M3 H locs hP S hk => ?_) (fun E q ce M9 H9 locs9 hX => hX.elim)
  obtain ⟨v4, rfl, h⟩ := hP
  refine W.eq (g2 := F0 m 11 ls [.int v4]) rfl ?_
  refine lv_if_eq (tgt := 16) hx hb dX4_end_11 (by decide) (fun c9 => ?_) (fun c9 => ?_)
  · have h := h.1 c9
    refine lv_aload_n hx hb dX4_end_16 rfl (lv_at hl 0 rfl) ?_
    refine lv_iconst (v := 0) hx hb dX4_end_17 (by decide) ?_
    refine lv_aload_n hx hb dX4_end_18 rfl (lv_at hl 0 rfl) ?_
    refine mm_gfa C S (ci := 3) (k := 34) rfl in_X4 (by decide) q1704 (fun _ h9 => h9) dX4_end_19 h (fun u5 h => ?_)
    refine lv_iload_n hx hb dX4_end_22 rfl (lv_at hl 1 rfl) ?_
    refine mm_iald C S h dX4_end_23 (fun v6 h => ?_)
    refine lv_if_eq (tgt := 31) hx hb dX4_end_24 (by decide) (fun c9 => ?_) (fun c9 => ?_)
    · have h := h.1 c9
      refine lv_iconst (v := 0) hx hb dX4_end_31 (by decide) ?_
      exact j32 _ _ _ _ _ _ _ _ _ _ _ _ hk S hl h
    · have h := h.2 c9
      refine lv_iconst (v := 1) hx hb dX4_end_27 (by decide) ?_
      refine lv_goto (tgt := 32) hx hb dX4_end_28 (by decide) ?_
      exact j32 _ _ _ _ _ _ _ _ _ _ _ _ hk S hl h
  · have h := h.2 c9
    refine lv_iconst (v := 0) hx hb dX4_end_14 (by decide) ?_
    exact mm_iret C S hr (Nat.le_trans (Nat.le_add_right _ _) hk) dX4_end_15 h
/-! X4_errorCode: level 11 -/
def wp_X4_errorCode (G : mG) (b : Nat) (P : Int32 → mM → Prop) (M : mM) (a0 : Nat) : Prop :=
  gfi M a0 3 20 fun v1 => isc M a0 3 ∧ (wp_X4_answered G 0 (fun v3 M2 => P v3 M2) M a0 v1)
set_option maxHeartbeats 4000000 in
set_option maxRecDepth 100000 in
theorem wk_X4_errorCode {l : Launch} (hst0 : l.stackTraces = false) {G : mG} {b : Nat} {P : Int32 → mM → Prop} {M : mM} {a0 : Nat} (h : wp_X4_errorCode G b P M a0) : mMet l yX4_errorCode (ws_ yX4_errorCode cX4_errorCode 1 (Option.some Jvm.ClassFile.FieldType.int)) 11 b G [.ref a0] M (mRi P) (fun _ _ _ => False) := by
  refine mm_met hst0 (by decide) (Nat.le_of_ble_eq_true rfl) ?_
  intro p e s m args below meth c ls C hr hnt hnm hl S
  have hl : lv_has ls 1 [(0, .ref a0)] := hl
  generalize mA M s.heap.size = A at C S ⊢
  have hx := C.hx
  have hb := C.hb
  have hk : 0 + b ≤ b := Nat.le_of_eq (Nat.zero_add b)
  unfold wp_X4_errorCode at h
  refine lv_aload_n hx hb dX4_errorCode_0 rfl (lv_at hl 0 rfl) ?_
  refine lv_aload_n hx hb dX4_errorCode_1 rfl (lv_at hl 0 rfl) ?_
  refine mm_gfi C S (ci := 3) (k := 20) rfl in_X4 (by decide) q1690 (fun _ h9 => h9) dX4_errorCode_2 h (fun v1 h => ?_)
  obtain ⟨hI, h⟩ := h
  refine mm_V (As := [.int v1]) (rest := []) C S hl.1 (wk_X4_answered hst0 h) (T := TX4) rfl hI (lw_V q1933 q1935 qs34 q58 q1936) rfl pd_X4_answered ⟨Nat.le_of_ble_eq_true rfl, Nat.le_of_ble_eq_true rfl⟩ rfl rfl (Nat.le_of_ble_eq_true rfl) dX4_errorCode_5 rfl rfl hk (Nat.zero_add _) (fun v9 M2 H locs hP S hk => ?_) (fun E q ce M9 H9 locs9 hX => hX.elim)
  obtain ⟨v3, rfl, h⟩ := hP
  refine W.eq (g2 := F0 m 8 ls [.int v3]) rfl ?_
  exact mm_iret C S hr (Nat.le_trans (Nat.le_add_right _ _) hk) dX4_errorCode_8 h
/-! X4_errorOffset: level 11 -/
def wp_X4_errorOffset (G : mG) (b : Nat) (P : Int32 → mM → Prop) (M : mM) (a0 : Nat) : Prop :=
  gfi M a0 3 21 fun v1 => isc M a0 3 ∧ (wp_X4_answered G 0 (fun v3 M2 => P v3 M2) M a0 v1)
set_option maxHeartbeats 4000000 in
set_option maxRecDepth 100000 in
theorem wk_X4_errorOffset {l : Launch} (hst0 : l.stackTraces = false) {G : mG} {b : Nat} {P : Int32 → mM → Prop} {M : mM} {a0 : Nat} (h : wp_X4_errorOffset G b P M a0) : mMet l yX4_errorOffset (ws_ yX4_errorOffset cX4_errorOffset 1 (Option.some Jvm.ClassFile.FieldType.int)) 11 b G [.ref a0] M (mRi P) (fun _ _ _ => False) := by
  refine mm_met hst0 (by decide) (Nat.le_of_ble_eq_true rfl) ?_
  intro p e s m args below meth c ls C hr hnt hnm hl S
  have hl : lv_has ls 1 [(0, .ref a0)] := hl
  generalize mA M s.heap.size = A at C S ⊢
  have hx := C.hx
  have hb := C.hb
  have hk : 0 + b ≤ b := Nat.le_of_eq (Nat.zero_add b)
  unfold wp_X4_errorOffset at h
  refine lv_aload_n hx hb dX4_errorOffset_0 rfl (lv_at hl 0 rfl) ?_
  refine lv_aload_n hx hb dX4_errorOffset_1 rfl (lv_at hl 0 rfl) ?_
  refine mm_gfi C S (ci := 3) (k := 21) rfl in_X4 (by decide) q1691 (fun _ h9 => h9) dX4_errorOffset_2 h (fun v1 h => ?_)
  obtain ⟨hI, h⟩ := h
  refine mm_V (As := [.int v1]) (rest := []) C S hl.1 (wk_X4_answered hst0 h) (T := TX4) rfl hI (lw_V q1933 q1935 qs34 q58 q1936) rfl pd_X4_answered ⟨Nat.le_of_ble_eq_true rfl, Nat.le_of_ble_eq_true rfl⟩ rfl rfl (Nat.le_of_ble_eq_true rfl) dX4_errorOffset_5 rfl rfl hk (Nat.zero_add _) (fun v9 M2 H locs hP S hk => ?_) (fun E q ce M9 H9 locs9 hX => hX.elim)
  obtain ⟨v3, rfl, h⟩ := hP
  refine W.eq (g2 := F0 m 8 ls [.int v3]) rfl ?_
  exact mm_iret C S hr (Nat.le_trans (Nat.le_add_right _ _) hk) dX4_errorOffset_8 h
/-! X4_errors: level 11 -/
def wb_X4_errors_166 (G : mG) (P : Int32 → mM → Prop) (K4 : Nat → mM → Nat → Int32 → Int32 → Prop) (K121 : Nat → mM → Nat → Int32 → Int32 → Int32 → Prop) (K131 : Nat → mM → Nat → Int32 → Int32 → Int32 → Int32 → Prop) (r : Nat) (M : mM) (a0 : Nat) (x1 : Int32) (x2 : Int32) (x4 : Int32) (x5 : Int32) : Prop :=
  K131 r M a0 x1 x2 x4 (x5 + 1)
def wl_X4_errors_131 (G : mG) (P : Int32 → mM → Prop) (K4 : Nat → mM → Nat → Int32 → Int32 → Prop) (K121 : Nat → mM → Nat → Int32 → Int32 → Int32 → Prop) : Nat → Nat → mM → Nat → Int32 → Int32 → Int32 → Int32 → Prop
  | 0, _, _, _, _, _, _, _ => False
  | n + 1, r, M, a0, x1, x2, x4, x5 => gfi M a0 3 2 fun v16 => (v16 < x5 → K121 r M a0 x1 x2 (x4 + 1)) ∧ (¬ v16 < x5 → isc M a0 3 ∧ (wp_X4_find G 0 (fun v18 M17 => (v18 = 0 → wb_X4_errors_166 G P K4 K121 (wl_X4_errors_131 G P K4 K121 n) r M17 a0 x1 x2 x4 x5) ∧ (¬ v18 = 0 → gfi M17 a0 3 47 fun v19 => gfi M17 a0 3 48 fun v20 => (v19 ≤ v20 → wb_X4_errors_166 G P K4 K121 (wl_X4_errors_131 G P K4 K121 n) r M17 a0 x1 x2 x4 x5) ∧ (¬ v19 ≤ v20 → wb_X4_errors_166 G P K4 K121 (wl_X4_errors_131 G P K4 K121 n) r M17 a0 (x1 + 1) x2 x4 x5))) M a0 x4 x2 x5))
def wl_X4_errors_121 (G : mG) (P : Int32 → mM → Prop) (K4 : Nat → mM → Nat → Int32 → Int32 → Prop) : Nat → Nat → mM → Nat → Int32 → Int32 → Int32 → Prop
  | 0, _, _, _, _, _, _ => False
  | n + 1, r, M, a0, x1, x2, x4 => (36 ≤ x4 → K4 r M a0 x1 (x2 + 1)) ∧ (¬ 36 ≤ x4 → ∃ n131, wl_X4_errors_131 G P K4 (wl_X4_errors_121 G P K4 n) n131 r M a0 x1 x2 x4 0)
def wb_X4_errors_118 (G : mG) (P : Int32 → mM → Prop) (K4 : Nat → mM → Nat → Int32 → Int32 → Prop) (r : Nat) (M : mM) (a0 : Nat) (x1 : Int32) (x2 : Int32) : Prop :=
  ∃ n121, wl_X4_errors_121 G P K4 n121 r M a0 x1 x2 0
def wl_X4_errors_78 (G : mG) (P : Int32 → mM → Prop) (K4 : Nat → mM → Nat → Int32 → Int32 → Prop) (K69 : Nat → mM → Nat → Int32 → Int32 → Int32 → Int32 → Prop) : Nat → Nat → mM → Nat → Int32 → Int32 → Int32 → Int32 → Int32 → Prop
  | 0, _, _, _, _, _, _, _, _ => False
  | n + 1, r, M, a0, x1, x2, x3, x4, x5 => (4 ≤ x5 → K69 r M a0 x1 x2 x3 (x4 + 1)) ∧ (¬ 4 ≤ x5 → gfa M a0 3 44 fun u12 => lda M 9 u12 x2 fun u13 => lda M 8 u13 x4 fun u14 => ldi M 0 u14 x5 fun v15 => (wl_X4_errors_78 G P K4 K69 n) r M a0 x1 x2 (x3 - v15) x4 (x5 + 1))
def wl_X4_errors_69 (G : mG) (P : Int32 → mM → Prop) (K4 : Nat → mM → Nat → Int32 → Int32 → Prop) : Nat → Nat → mM → Nat → Int32 → Int32 → Int32 → Int32 → Prop
  | 0, _, _, _, _, _, _, _ => False
  | n + 1, r, M, a0, x1, x2, x3, x4 => (3 ≤ x4 → (x3 = 0 → wb_X4_errors_118 G P K4 r M a0 x1 x2) ∧ (¬ x3 = 0 → wb_X4_errors_118 G P K4 r M a0 (x1 + 1) x2)) ∧ (¬ 3 ≤ x4 → ∃ n78, wl_X4_errors_78 G P K4 (wl_X4_errors_69 G P K4 n) n78 r M a0 x1 x2 x3 x4 0)
def wb_X4_errors_60 (G : mG) (P : Int32 → mM → Prop) (K4 : Nat → mM → Nat → Int32 → Int32 → Prop) (K14 : Nat → mM → Nat → Int32 → Int32 → Int32 → Int32 → Prop) (r : Nat) (M : mM) (a0 : Nat) (x1 : Int32) (x2 : Int32) (x3 : Int32) (x4 : Int32) : Prop :=
  K14 r M a0 x1 x2 x3 (x4 + 1)
def wl_X4_errors_14 (G : mG) (P : Int32 → mM → Prop) (K4 : Nat → mM → Nat → Int32 → Int32 → Prop) : Nat → Nat → mM → Nat → Int32 → Int32 → Int32 → Int32 → Prop
  | 0, _, _, _, _, _, _, _ => False
  | n + 1, r, M, a0, x1, x2, x3, x4 => gfi M a0 3 29 fun v3 => (v3 ≤ x4 → ∃ n69, wl_X4_errors_69 G P K4 n69 r M a0 x1 x2 x3 0) ∧ (¬ v3 ≤ x4 → gfa M a0 3 39 fun u4 => ldi M 0 u4 x4 fun v5 => (¬ v5 = x2 → wb_X4_errors_60 G P K4 (wl_X4_errors_14 G P K4 n) r M a0 x1 x2 x3 x4) ∧ (v5 = x2 → gfa M a0 3 34 fun u6 => gfa M a0 3 36 fun u7 => ldi M 0 u7 x4 fun v8 => ldi M 0 u6 v8 fun v9 => (¬ v9 = 1 → wb_X4_errors_60 G P K4 (wl_X4_errors_14 G P K4 n) r M a0 x1 x2 x3 x4) ∧ (v9 = 1 → gfa M a0 3 40 fun u10 => ldi M 0 u10 x4 fun v11 => wb_X4_errors_60 G P K4 (wl_X4_errors_14 G P K4 n) r M a0 x1 x2 (x3 + v11) x4)))
def wl_X4_errors_4 (G : mG) (P : Int32 → mM → Prop) : Nat → Nat → mM → Nat → Int32 → Int32 → Prop
  | 0, _, _, _, _, _ => False
  | n + 1, r, M, a0, x1, x2 => (4 ≤ x2 → isc M a0 3 ∧ (wp_X4_answered G 0 (fun v2 M1 => P v2 M1) M a0 x1)) ∧ (¬ 4 ≤ x2 → ∃ n14, wl_X4_errors_14 G P (wl_X4_errors_4 G P n) n14 r M a0 x1 x2 0 0)
def wp_X4_errors (G : mG) (b : Nat) (P : Int32 → mM → Prop) (M : mM) (a0 : Nat) : Prop :=
  ∃ n4, wl_X4_errors_4 G P n4 b M a0 0 0
set_option maxHeartbeats 4000000 in
set_option maxRecDepth 100000 in
theorem wk_X4_errors {l : Launch} (hst0 : l.stackTraces = false) {G : mG} {b : Nat} {P : Int32 → mM → Prop} {M : mM} {a0 : Nat} (h : wp_X4_errors G b P M a0) : mMet l yX4_errors (ws_ yX4_errors cX4_errors 6 (Option.some Jvm.ClassFile.FieldType.int)) 11 b G [.ref a0] M (mRi P) (fun _ _ _ => False) := by
  refine mm_met hst0 (by decide) (Nat.le_of_ble_eq_true rfl) ?_
  intro p e s m args below meth c ls C hr hnt hnm hl S
  have hl : lv_has ls 6 [(0, .ref a0)] := hl
  generalize mA M s.heap.size = A at C S ⊢
  have hx := C.hx
  have hb := C.hb
  have hk : 0 + b ≤ b := Nat.le_of_eq (Nat.zero_add b)
  have j4 : ∀ (nf : Nat) (k r : Nat) (M : mM) (H : Heap) (locs : List Loc) (ls : Array Slot) (a0 : Nat) (x1 : Int32) (x2 : Int32), k + r ≤ b → mW G A s M H locs → lv_has ls 6 [(0, .ref a0), (1, .int x1), (2, .int x2)] → wl_X4_errors_4 G P nf r M a0 x1 x2 → W p l e (mRm 11 b) s m args below meth c H locs k k (vx_MQ below (mQ G A (mRi P)) (mXC G A (fun _ _ _ => False)) args s b b A) (F0 m 4 ls []) := by
    intro nf
    induction nf with
    | zero =>
      intro k r M H locs ls a0 x1 x2 hk S hl h
      rw [wl_X4_errors_4] at h
      exact h.elim
    | succ n4 ih4 =>
      have j121 : ∀ (nf : Nat) (k r : Nat) (M : mM) (H : Heap) (locs : List Loc) (ls : Array Slot) (a0 : Nat) (x1 : Int32) (x2 : Int32) (x4 : Int32), k + r ≤ b → mW G A s M H locs → lv_has ls 6 [(0, .ref a0), (1, .int x1), (2, .int x2), (4, .int x4)] → wl_X4_errors_121 G P (wl_X4_errors_4 G P n4) nf r M a0 x1 x2 x4 → W p l e (mRm 11 b) s m args below meth c H locs k k (vx_MQ below (mQ G A (mRi P)) (mXC G A (fun _ _ _ => False)) args s b b A) (F0 m 121 ls []) := by
        intro nf
        induction nf with
        | zero =>
          intro k r M H locs ls a0 x1 x2 x4 hk S hl h
          rw [wl_X4_errors_121] at h
          exact h.elim
        | succ n121 ih121 =>
          have j131 : ∀ (nf : Nat) (k r : Nat) (M : mM) (H : Heap) (locs : List Loc) (ls : Array Slot) (a0 : Nat) (x1 : Int32) (x2 : Int32) (x4 : Int32) (x5 : Int32), k + r ≤ b → mW G A s M H locs → lv_has ls 6 [(0, .ref a0), (1, .int x1), (2, .int x2), (4, .int x4), (5, .int x5)] → wl_X4_errors_131 G P (wl_X4_errors_4 G P n4) (wl_X4_errors_121 G P (wl_X4_errors_4 G P n4) n121) nf r M a0 x1 x2 x4 x5 → W p l e (mRm 11 b) s m args below meth c H locs k k (vx_MQ below (mQ G A (mRi P)) (mXC G A (fun _ _ _ => False)) args s b b A) (F0 m 131 ls []) := by
            intro nf
            induction nf with
            | zero =>
              intro k r M H locs ls a0 x1 x2 x4 x5 hk S hl h
              rw [wl_X4_errors_131] at h
              exact h.elim
            | succ n131 ih131 =>
              have j166 : ∀ (k r : Nat) (M : mM) (H : Heap) (locs : List Loc) (ls : Array Slot) (a0 : Nat) (x1 : Int32) (x2 : Int32) (x4 : Int32) (x5 : Int32), k + r ≤ b → mW G A s M H locs → lv_has ls 6 [(0, .ref a0), (1, .int x1), (2, .int x2), (4, .int x4), (5, .int x5)] → wb_X4_errors_166 G P (wl_X4_errors_4 G P n4) (wl_X4_errors_121 G P (wl_X4_errors_4 G P n4) n121) (wl_X4_errors_131 G P (wl_X4_errors_4 G P n4) (wl_X4_errors_121 G P (wl_X4_errors_4 G P n4) n121) n131) r M a0 x1 x2 x4 x5 → W p l e (mRm 11 b) s m args below meth c H locs k k (vx_MQ below (mQ G A (mRi P)) (mXC G A (fun _ _ _ => False)) args s b b A) (F0 m 166 ls []) := by
                intro k r M H locs ls a0 x1 x2 x4 x5 hk S hl h
                unfold wb_X4_errors_166 at h
                refine lv_iinc (v := (x5 + 1)) (lv' := [(5, .int (x5 + 1)), (0, .ref a0), (1, .int x1), (2, .int x2), (4, .int x4)]) hx hb dX4_errors_166 hl (k := 4) rfl rfl (by decide) rfl (fun ls hl => ?_)
                refine lv_goto (tgt := 131) hx hb dX4_errors_169 (by decide) ?_
                exact ih131 _ _ _ _ _ _ _ _ _ _ _ hk S (lv_sub hl [1, 2, 3, 4, 0] rfl) h
              intro k r M H locs ls a0 x1 x2 x4 x5 hk S hl h
              rw [wl_X4_errors_131] at h
              refine lv_iload hx hb dX4_errors_131 (lv_at hl 4 rfl) ?_
              refine lv_aload_n hx hb dX4_errors_133 rfl (lv_at hl 0 rfl) ?_
              refine mm_gfi C S (ci := 3) (k := 2) rfl in_X4 (by decide) q1672 (fun _ h9 => h9) dX4_errors_134 h (fun v16 h => ?_)
              refine lv_icmp_gt (tgt := 172) hx hb dX4_errors_137 (by decide) (fun c9 => ?_) (fun c9 => ?_)
              · have h := h.1 c9
                refine lv_iinc (v := (x4 + 1)) (lv' := [(4, .int (x4 + 1)), (0, .ref a0), (1, .int x1), (2, .int x2), (5, .int x5)]) hx hb dX4_errors_172 hl (k := 3) rfl rfl (by decide) rfl (fun ls hl => ?_)
                refine lv_goto (tgt := 121) hx hb dX4_errors_175 (by decide) ?_
                exact ih121 _ _ _ _ _ _ _ _ _ _ hk S (lv_sub hl [1, 2, 3, 0] rfl) h
              · have h := h.2 c9
                refine lv_aload_n hx hb dX4_errors_140 rfl (lv_at hl 0 rfl) ?_
                refine lv_iload hx hb dX4_errors_141 (lv_at hl 3 rfl) ?_
                refine lv_iload_n hx hb dX4_errors_143 rfl (lv_at hl 2 rfl) ?_
                refine lv_iload hx hb dX4_errors_144 (lv_at hl 4 rfl) ?_
                obtain ⟨hI, h⟩ := h
                refine mm_V (As := [.int x4, .int x2, .int x5]) (rest := []) C S hl.1 (wk_X4_find hst0 h) (T := TX4) rfl hI (lw_V q1973 q1975 qs39 q58 q1976) rfl pd_X4_find ⟨Nat.le_of_ble_eq_true rfl, Nat.le_of_ble_eq_true rfl⟩ rfl rfl (Nat.le_of_ble_eq_true rfl) dX4_errors_146 rfl rfl hk (Nat.zero_add _) (fun v9 M17 H locs hP S hk => ?_) (fun E q ce M9 H9 locs9 hX => hX.elim)
                obtain ⟨v18, rfl, h⟩ := hP
                refine W.eq (g2 := F0 m 149 ls [.int v18]) rfl ?_
                refine lv_if_eq (tgt := 166) hx hb dX4_errors_149 (by decide) (fun c9 => ?_) (fun c9 => ?_)
                · have h := h.1 c9
                  exact j166 _ _ _ _ _ _ _ _ _ _ _ hk S hl h
                · have h := h.2 c9
                  refine lv_aload_n hx hb dX4_errors_152 rfl (lv_at hl 0 rfl) ?_
                  refine mm_gfi C S (ci := 3) (k := 47) rfl in_X4 (by decide) q1717 (fun _ h9 => h9) dX4_errors_153 h (fun v19 h => ?_)
                  refine lv_aload_n hx hb dX4_errors_156 rfl (lv_at hl 0 rfl) ?_
                  refine mm_gfi C S (ci := 3) (k := 48) rfl in_X4 (by decide) q1718 (fun _ h9 => h9) dX4_errors_157 h (fun v20 h => ?_)
                  refine lv_icmp_le (tgt := 166) hx hb dX4_errors_160 (by decide) (fun c9 => ?_) (fun c9 => ?_)
                  · have h := h.1 c9
                    exact j166 _ _ _ _ _ _ _ _ _ _ _ hk S hl h
                  · have h := h.2 c9
                    refine lv_iinc (v := (x1 + 1)) (lv' := [(1, .int (x1 + 1)), (0, .ref a0), (2, .int x2), (4, .int x4), (5, .int x5)]) hx hb dX4_errors_163 hl (k := 1) rfl rfl (by decide) rfl (fun ls hl => ?_)
                    exact j166 _ _ _ _ _ _ _ _ _ _ _ hk S (lv_sub hl [1, 0, 2, 3, 4] rfl) h
          intro k r M H locs ls a0 x1 x2 x4 hk S hl h
          rw [wl_X4_errors_121] at h
          refine lv_iload hx hb dX4_errors_121 (lv_at hl 3 rfl) ?_
          refine lv_bipush (v := 36) hx hb dX4_errors_123 (by decide) ?_
          refine lv_icmp_ge (tgt := 178) hx hb dX4_errors_125 (by decide) (fun c9 => ?_) (fun c9 => ?_)
          · have h := h.1 c9
            refine lv_iinc (v := (x2 + 1)) (lv' := [(2, .int (x2 + 1)), (0, .ref a0), (1, .int x1), (4, .int x4)]) hx hb dX4_errors_178 hl (k := 2) rfl rfl (by decide) rfl (fun ls hl => ?_)
            refine lv_goto (tgt := 4) hx hb dX4_errors_181 (by decide) ?_
            exact ih4 _ _ _ _ _ _ _ _ _ hk S (lv_sub hl [1, 2, 0] rfl) h
          · have h := h.2 c9
            refine lv_iconst (v := 0) hx hb dX4_errors_128 (by decide) ?_
            refine lv_istore (lv' := [(5, .int 0), (0, .ref a0), (1, .int x1), (2, .int x2), (4, .int x4)]) hx hb dX4_errors_129 hl (by decide) rfl (fun ls hl => ?_)
            obtain ⟨nf, h⟩ := h
            exact j131 nf _ _ _ _ _ _ _ _ _ _ _ hk S (lv_sub hl [1, 2, 3, 4, 0] rfl) h
      have j118 : ∀ (k r : Nat) (M : mM) (H : Heap) (locs : List Loc) (ls : Array Slot) (a0 : Nat) (x1 : Int32) (x2 : Int32), k + r ≤ b → mW G A s M H locs → lv_has ls 6 [(0, .ref a0), (1, .int x1), (2, .int x2)] → wb_X4_errors_118 G P (wl_X4_errors_4 G P n4) r M a0 x1 x2 → W p l e (mRm 11 b) s m args below meth c H locs k k (vx_MQ below (mQ G A (mRi P)) (mXC G A (fun _ _ _ => False)) args s b b A) (F0 m 118 ls []) := by
        intro k r M H locs ls a0 x1 x2 hk S hl h
        unfold wb_X4_errors_118 at h
        refine lv_iconst (v := 0) hx hb dX4_errors_118 (by decide) ?_
        refine lv_istore (lv' := [(4, .int 0), (0, .ref a0), (1, .int x1), (2, .int x2)]) hx hb dX4_errors_119 hl (by decide) rfl (fun ls hl => ?_)
        obtain ⟨nf, h⟩ := h
        exact j121 nf _ _ _ _ _ _ _ _ _ _ hk S (lv_sub hl [1, 2, 3, 0] rfl) h
      have j69 : ∀ (nf : Nat) (k r : Nat) (M : mM) (H : Heap) (locs : List Loc) (ls : Array Slot) (a0 : Nat) (x1 : Int32) (x2 : Int32) (x3 : Int32) (x4 : Int32), k + r ≤ b → mW G A s M H locs → lv_has ls 6 [(0, .ref a0), (1, .int x1), (2, .int x2), (3, .int x3), (4, .int x4)] → wl_X4_errors_69 G P (wl_X4_errors_4 G P n4) nf r M a0 x1 x2 x3 x4 → W p l e (mRm 11 b) s m args below meth c H locs k k (vx_MQ below (mQ G A (mRi P)) (mXC G A (fun _ _ _ => False)) args s b b A) (F0 m 69 ls []) := by
        intro nf
        induction nf with
        | zero =>
          intro k r M H locs ls a0 x1 x2 x3 x4 hk S hl h
          rw [wl_X4_errors_69] at h
          exact h.elim
        | succ n69 ih69 =>
          have j78 : ∀ (nf : Nat) (k r : Nat) (M : mM) (H : Heap) (locs : List Loc) (ls : Array Slot) (a0 : Nat) (x1 : Int32) (x2 : Int32) (x3 : Int32) (x4 : Int32) (x5 : Int32), k + r ≤ b → mW G A s M H locs → lv_has ls 6 [(0, .ref a0), (1, .int x1), (2, .int x2), (3, .int x3), (4, .int x4), (5, .int x5)] → wl_X4_errors_78 G P (wl_X4_errors_4 G P n4) (wl_X4_errors_69 G P (wl_X4_errors_4 G P n4) n69) nf r M a0 x1 x2 x3 x4 x5 → W p l e (mRm 11 b) s m args below meth c H locs k k (vx_MQ below (mQ G A (mRi P)) (mXC G A (fun _ _ _ => False)) args s b b A) (F0 m 78 ls []) := by
            intro nf
            induction nf with
            | zero =>
              intro k r M H locs ls a0 x1 x2 x3 x4 x5 hk S hl h
              rw [wl_X4_errors_78] at h
              exact h.elim
            | succ n78 ih78 =>
              intro k r M H locs ls a0 x1 x2 x3 x4 x5 hk S hl h
              rw [wl_X4_errors_78] at h
              refine lv_iload hx hb dX4_errors_78 (lv_at hl 5 rfl) ?_
              refine lv_iconst (v := 4) hx hb dX4_errors_80 (by decide) ?_
              refine lv_icmp_ge (tgt := 105) hx hb dX4_errors_81 (by decide) (fun c9 => ?_) (fun c9 => ?_)
              · have h := h.1 c9
                refine lv_iinc (v := (x4 + 1)) (lv' := [(4, .int (x4 + 1)), (0, .ref a0), (1, .int x1), (2, .int x2), (3, .int x3), (5, .int x5)]) hx hb dX4_errors_105 hl (k := 4) rfl rfl (by decide) rfl (fun ls hl => ?_)
                refine lv_goto (tgt := 69) hx hb dX4_errors_108 (by decide) ?_
                exact ih69 _ _ _ _ _ _ _ _ _ _ _ hk S (lv_sub hl [1, 2, 3, 4, 0] rfl) h
              · have h := h.2 c9
                refine lv_iload_n hx hb dX4_errors_84 rfl (lv_at hl 3 rfl) ?_
                refine lv_aload_n hx hb dX4_errors_85 rfl (lv_at hl 0 rfl) ?_
                refine mm_gfa C S (ci := 3) (k := 44) rfl in_X4 (by decide) q1714 (fun _ h9 => h9) dX4_errors_86 h (fun u12 h => ?_)
                refine lv_iload_n hx hb dX4_errors_89 rfl (lv_at hl 2 rfl) ?_
                refine mm_aald C S (t := 9) rfl rfl h dX4_errors_90 (fun u13 h => ?_)
                refine lv_iload hx hb dX4_errors_91 (lv_at hl 4 rfl) ?_
                refine mm_aald C S (t := 8) rfl rfl h dX4_errors_93 (fun u14 h => ?_)
                refine lv_iload hx hb dX4_errors_94 (lv_at hl 5 rfl) ?_
                refine mm_iald C S h dX4_errors_96 (fun v15 h => ?_)
                refine lv_isub hx hb dX4_errors_97 ?_
                refine lv_istore_n (lv' := [(3, .int (x3 - v15)), (0, .ref a0), (1, .int x1), (2, .int x2), (4, .int x4), (5, .int x5)]) hx hb dX4_errors_98 rfl hl (by decide) rfl (fun ls hl => ?_)
                refine lv_iinc (v := (x5 + 1)) (lv' := [(5, .int (x5 + 1)), (3, .int (x3 - v15)), (0, .ref a0), (1, .int x1), (2, .int x2), (4, .int x4)]) hx hb dX4_errors_99 hl (k := 5) rfl rfl (by decide) rfl (fun ls hl => ?_)
                refine lv_goto (tgt := 78) hx hb dX4_errors_102 (by decide) ?_
                exact ih78 _ _ _ _ _ _ _ _ _ _ _ _ hk S (lv_sub hl [2, 3, 4, 1, 5, 0] rfl) h
          intro k r M H locs ls a0 x1 x2 x3 x4 hk S hl h
          rw [wl_X4_errors_69] at h
          refine lv_iload hx hb dX4_errors_69 (lv_at hl 4 rfl) ?_
          refine lv_iconst (v := 3) hx hb dX4_errors_71 (by decide) ?_
          refine lv_icmp_ge (tgt := 111) hx hb dX4_errors_72 (by decide) (fun c9 => ?_) (fun c9 => ?_)
          · have h := h.1 c9
            refine lv_iload_n hx hb dX4_errors_111 rfl (lv_at hl 3 rfl) ?_
            refine lv_if_eq (tgt := 118) hx hb dX4_errors_112 (by decide) (fun c9 => ?_) (fun c9 => ?_)
            · have h := h.1 c9
              exact j118 _ _ _ _ _ _ _ _ _ hk S (lv_sub hl [0, 1, 2] rfl) h
            · have h := h.2 c9
              refine lv_iinc (v := (x1 + 1)) (lv' := [(1, .int (x1 + 1)), (0, .ref a0), (2, .int x2), (3, .int x3), (4, .int x4)]) hx hb dX4_errors_115 hl (k := 1) rfl rfl (by decide) rfl (fun ls hl => ?_)
              exact j118 _ _ _ _ _ _ _ _ _ hk S (lv_sub hl [1, 0, 2] rfl) h
          · have h := h.2 c9
            refine lv_iconst (v := 0) hx hb dX4_errors_75 (by decide) ?_
            refine lv_istore (lv' := [(5, .int 0), (0, .ref a0), (1, .int x1), (2, .int x2), (3, .int x3), (4, .int x4)]) hx hb dX4_errors_76 hl (by decide) rfl (fun ls hl => ?_)
            obtain ⟨nf, h⟩ := h
            exact j78 nf _ _ _ _ _ _ _ _ _ _ _ _ hk S (lv_sub hl [1, 2, 3, 4, 5, 0] rfl) h
      have j14 : ∀ (nf : Nat) (k r : Nat) (M : mM) (H : Heap) (locs : List Loc) (ls : Array Slot) (a0 : Nat) (x1 : Int32) (x2 : Int32) (x3 : Int32) (x4 : Int32), k + r ≤ b → mW G A s M H locs → lv_has ls 6 [(0, .ref a0), (1, .int x1), (2, .int x2), (3, .int x3), (4, .int x4)] → wl_X4_errors_14 G P (wl_X4_errors_4 G P n4) nf r M a0 x1 x2 x3 x4 → W p l e (mRm 11 b) s m args below meth c H locs k k (vx_MQ below (mQ G A (mRi P)) (mXC G A (fun _ _ _ => False)) args s b b A) (F0 m 14 ls []) := by
        intro nf
        induction nf with
        | zero =>
          intro k r M H locs ls a0 x1 x2 x3 x4 hk S hl h
          rw [wl_X4_errors_14] at h
          exact h.elim
        | succ n14 ih14 =>
          have j60 : ∀ (k r : Nat) (M : mM) (H : Heap) (locs : List Loc) (ls : Array Slot) (a0 : Nat) (x1 : Int32) (x2 : Int32) (x3 : Int32) (x4 : Int32), k + r ≤ b → mW G A s M H locs → lv_has ls 6 [(0, .ref a0), (1, .int x1), (2, .int x2), (3, .int x3), (4, .int x4)] → wb_X4_errors_60 G P (wl_X4_errors_4 G P n4) (wl_X4_errors_14 G P (wl_X4_errors_4 G P n4) n14) r M a0 x1 x2 x3 x4 → W p l e (mRm 11 b) s m args below meth c H locs k k (vx_MQ below (mQ G A (mRi P)) (mXC G A (fun _ _ _ => False)) args s b b A) (F0 m 60 ls []) := by
            intro k r M H locs ls a0 x1 x2 x3 x4 hk S hl h
            unfold wb_X4_errors_60 at h
            refine lv_iinc (v := (x4 + 1)) (lv' := [(4, .int (x4 + 1)), (0, .ref a0), (1, .int x1), (2, .int x2), (3, .int x3)]) hx hb dX4_errors_60 hl (k := 4) rfl rfl (by decide) rfl (fun ls hl => ?_)
            refine lv_goto (tgt := 14) hx hb dX4_errors_63 (by decide) ?_
            exact ih14 _ _ _ _ _ _ _ _ _ _ _ hk S (lv_sub hl [1, 2, 3, 4, 0] rfl) h
          intro k r M H locs ls a0 x1 x2 x3 x4 hk S hl h
          rw [wl_X4_errors_14] at h
          refine lv_iload hx hb dX4_errors_14 (lv_at hl 4 rfl) ?_
          refine lv_aload_n hx hb dX4_errors_16 rfl (lv_at hl 0 rfl) ?_
          refine mm_gfi C S (ci := 3) (k := 29) rfl in_X4 (by decide) q1699 (fun _ h9 => h9) dX4_errors_17 h (fun v3 h => ?_)
          refine lv_icmp_ge (tgt := 66) hx hb dX4_errors_20 (by decide) (fun c9 => ?_) (fun c9 => ?_)
          · have h := h.1 c9
            refine lv_iconst (v := 0) hx hb dX4_errors_66 (by decide) ?_
            refine lv_istore (lv' := [(4, .int 0), (0, .ref a0), (1, .int x1), (2, .int x2), (3, .int x3)]) hx hb dX4_errors_67 hl (by decide) rfl (fun ls hl => ?_)
            obtain ⟨nf, h⟩ := h
            exact j69 nf _ _ _ _ _ _ _ _ _ _ _ hk S (lv_sub hl [1, 2, 3, 4, 0] rfl) h
          · have h := h.2 c9
            refine lv_aload_n hx hb dX4_errors_23 rfl (lv_at hl 0 rfl) ?_
            refine mm_gfa C S (ci := 3) (k := 39) rfl in_X4 (by decide) q1709 (fun _ h9 => h9) dX4_errors_24 h (fun u4 h => ?_)
            refine lv_iload hx hb dX4_errors_27 (lv_at hl 4 rfl) ?_
            refine mm_iald C S h dX4_errors_29 (fun v5 h => ?_)
            refine lv_iload_n hx hb dX4_errors_30 rfl (lv_at hl 2 rfl) ?_
            refine lv_icmp_ne (tgt := 60) hx hb dX4_errors_31 (by decide) (fun c9 => ?_) (fun c9 => ?_)
            · have h := h.1 c9
              exact j60 _ _ _ _ _ _ _ _ _ _ _ hk S hl h
            · have h := h.2 c9
              refine lv_aload_n hx hb dX4_errors_34 rfl (lv_at hl 0 rfl) ?_
              refine mm_gfa C S (ci := 3) (k := 34) rfl in_X4 (by decide) q1704 (fun _ h9 => h9) dX4_errors_35 h (fun u6 h => ?_)
              refine lv_aload_n hx hb dX4_errors_38 rfl (lv_at hl 0 rfl) ?_
              refine mm_gfa C S (ci := 3) (k := 36) rfl in_X4 (by decide) q1706 (fun _ h9 => h9) dX4_errors_39 h (fun u7 h => ?_)
              refine lv_iload hx hb dX4_errors_42 (lv_at hl 4 rfl) ?_
              refine mm_iald C S h dX4_errors_44 (fun v8 h => ?_)
              refine mm_iald C S h dX4_errors_45 (fun v9 h => ?_)
              refine lv_iconst (v := 1) hx hb dX4_errors_46 (by decide) ?_
              refine lv_icmp_ne (tgt := 60) hx hb dX4_errors_47 (by decide) (fun c9 => ?_) (fun c9 => ?_)
              · have h := h.1 c9
                exact j60 _ _ _ _ _ _ _ _ _ _ _ hk S hl h
              · have h := h.2 c9
                refine lv_iload_n hx hb dX4_errors_50 rfl (lv_at hl 3 rfl) ?_
                refine lv_aload_n hx hb dX4_errors_51 rfl (lv_at hl 0 rfl) ?_
                refine mm_gfa C S (ci := 3) (k := 40) rfl in_X4 (by decide) q1710 (fun _ h9 => h9) dX4_errors_52 h (fun u10 h => ?_)
                refine lv_iload hx hb dX4_errors_55 (lv_at hl 4 rfl) ?_
                refine mm_iald C S h dX4_errors_57 (fun v11 h => ?_)
                refine lv_iadd hx hb dX4_errors_58 ?_
                refine lv_istore_n (lv' := [(3, .int (x3 + v11)), (0, .ref a0), (1, .int x1), (2, .int x2), (4, .int x4)]) hx hb dX4_errors_59 rfl hl (by decide) rfl (fun ls hl => ?_)
                exact j60 _ _ _ _ _ _ _ _ _ _ _ hk S (lv_sub hl [1, 2, 3, 0, 4] rfl) h
      intro k r M H locs ls a0 x1 x2 hk S hl h
      rw [wl_X4_errors_4] at h
      refine lv_iload_n hx hb dX4_errors_4 rfl (lv_at hl 2 rfl) ?_
      refine lv_iconst (v := 4) hx hb dX4_errors_5 (by decide) ?_
      refine lv_icmp_ge (tgt := 184) hx hb dX4_errors_6 (by decide) (fun c9 => ?_) (fun c9 => ?_)
      · have h := h.1 c9
        refine lv_aload_n hx hb dX4_errors_184 rfl (lv_at hl 0 rfl) ?_
        refine lv_iload_n hx hb dX4_errors_185 rfl (lv_at hl 1 rfl) ?_
        obtain ⟨hI, h⟩ := h
        refine mm_V (As := [.int x1]) (rest := []) C S hl.1 (wk_X4_answered hst0 h) (T := TX4) rfl hI (lw_V q1933 q1935 qs34 q58 q1936) rfl pd_X4_answered ⟨Nat.le_of_ble_eq_true rfl, Nat.le_of_ble_eq_true rfl⟩ rfl rfl (Nat.le_of_ble_eq_true rfl) dX4_errors_186 rfl rfl hk (Nat.zero_add _) (fun v9 M1 H locs hP S hk => ?_) (fun E q ce M9 H9 locs9 hX => hX.elim)
        obtain ⟨v2, rfl, h⟩ := hP
        refine W.eq (g2 := F0 m 189 ls [.int v2]) rfl ?_
        exact mm_iret C S hr (Nat.le_trans (Nat.le_add_right _ _) hk) dX4_errors_189 h
      · have h := h.2 c9
        refine lv_iconst (v := 0) hx hb dX4_errors_9 (by decide) ?_
        refine lv_istore_n (lv' := [(3, .int 0), (0, .ref a0), (1, .int x1), (2, .int x2)]) hx hb dX4_errors_10 rfl hl (by decide) rfl (fun ls hl => ?_)
        refine lv_iconst (v := 0) hx hb dX4_errors_11 (by decide) ?_
        refine lv_istore (lv' := [(4, .int 0), (3, .int 0), (0, .ref a0), (1, .int x1), (2, .int x2)]) hx hb dX4_errors_12 hl (by decide) rfl (fun ls hl => ?_)
        obtain ⟨nf, h⟩ := h
        exact j14 nf _ _ _ _ _ _ _ _ _ _ _ hk S (lv_sub hl [2, 3, 4, 1, 0] rfl) h
  unfold wp_X4_errors at h
  refine lv_iconst (v := 0) hx hb dX4_errors_0 (by decide) ?_
  refine lv_istore_n (lv' := [(1, .int 0), (0, .ref a0)]) hx hb dX4_errors_1 rfl hl (by decide) rfl (fun ls hl => ?_)
  refine lv_iconst (v := 0) hx hb dX4_errors_2 (by decide) ?_
  refine lv_istore_n (lv' := [(2, .int 0), (1, .int 0), (0, .ref a0)]) hx hb dX4_errors_3 rfl hl (by decide) rfl (fun ls hl => ?_)
  obtain ⟨nf, h⟩ := h
  exact j4 nf _ _ _ _ _ _ _ _ _ hk S (lv_sub hl [2, 1, 0] rfl) h
/-! X4_letter: level 10 -/
def wb_X4_letter_18 (G : mG) (P : Int32 → mM → Prop) (r : Nat) (M : mM) (s0 : Int32) : Prop :=
  P s0 M
def wp_X4_letter (G : mG) (b : Nat) (P : Int32 → mM → Prop) (M : mM) (a0 : Nat) (x1 : Int32) : Prop :=
  gfi M a0 3 18 fun v1 => (v1 ≤ x1 → wb_X4_letter_18 G P b M (-1)) ∧ (¬ v1 ≤ x1 → gfa M a0 3 22 fun u2 => ldi M 0 u2 x1 fun v3 => wb_X4_letter_18 G P b M v3)
set_option maxHeartbeats 4000000 in
set_option maxRecDepth 100000 in
theorem wk_X4_letter {l : Launch} (hst0 : l.stackTraces = false) {G : mG} {b : Nat} {P : Int32 → mM → Prop} {M : mM} {a0 : Nat} {x1 : Int32} (h : wp_X4_letter G b P M a0 x1) : mMet l yX4_letter (ws_ yX4_letter cX4_letter 2 (Option.some Jvm.ClassFile.FieldType.int)) 10 b G [.ref a0, .int x1] M (mRi P) (fun _ _ _ => False) := by
  refine mm_met hst0 (by decide) (Nat.le_of_ble_eq_true rfl) ?_
  intro p e s m args below meth c ls C hr hnt hnm hl S
  have hl : lv_has ls 2 [(0, .ref a0), (1, .int x1)] := hl
  generalize mA M s.heap.size = A at C S ⊢
  have hx := C.hx
  have hb := C.hb
  have hk : 0 + b ≤ b := Nat.le_of_eq (Nat.zero_add b)
  have j18 : ∀ (k r : Nat) (M : mM) (H : Heap) (locs : List Loc) (ls : Array Slot) (s0 : Int32), k + r ≤ b → mW G A s M H locs → lv_has ls 2 [] → wb_X4_letter_18 G P r M s0 → W p l e (mRm 10 b) s m args below meth c H locs k k (vx_MQ below (mQ G A (mRi P)) (mXC G A (fun _ _ _ => False)) args s b b A) (F0 m 18 ls [.int s0]) := by
    intro k r M H locs ls s0 hk S hl h
    unfold wb_X4_letter_18 at h
    exact mm_iret C S hr (Nat.le_trans (Nat.le_add_right _ _) hk) dX4_letter_18 h
  unfold wp_X4_letter at h
  refine lv_iload_n hx hb dX4_letter_0 rfl (lv_at hl 1 rfl) ?_
  refine lv_aload_n hx hb dX4_letter_1 rfl (lv_at hl 0 rfl) ?_
  refine mm_gfi C S (ci := 3) (k := 18) rfl in_X4 (by decide) q1688 (fun _ h9 => h9) dX4_letter_2 h (fun v1 h => ?_)
  refine lv_icmp_ge (tgt := 17) hx hb dX4_letter_5 (by decide) (fun c9 => ?_) (fun c9 => ?_)
  · have h := h.1 c9
    refine lv_iconst (v := (-1)) hx hb dX4_letter_17 (by decide) ?_
    exact j18 _ _ _ _ _ _ _ hk S (lv_sub hl [] rfl) h
  · have h := h.2 c9
    refine lv_aload_n hx hb dX4_letter_8 rfl (lv_at hl 0 rfl) ?_
    refine mm_gfa C S (ci := 3) (k := 22) rfl in_X4 (by decide) q1692 (fun _ h9 => h9) dX4_letter_9 h (fun u2 h => ?_)
    refine lv_iload_n hx hb dX4_letter_12 rfl (lv_at hl 1 rfl) ?_
    refine mm_iald C S h dX4_letter_13 (fun v3 h => ?_)
    refine lv_goto (tgt := 18) hx hb dX4_letter_14 (by decide) ?_
    exact j18 _ _ _ _ _ _ _ hk S (lv_sub hl [] rfl) h
/-! X4_wrong: level 10 -/
def wp_X4_wrong (G : mG) (b : Nat) (P : Int32 → mM → Prop) (M : mM) (a0 : Nat) (x1 : Int32) : Prop :=
  pfi M a0 3 20 x1 fun M1 => gfi M1 a0 3 19 fun v2 => pfi M1 a0 3 21 v2 fun M3 => narrow .boolean (.int 0) = .int 0 ∧ P 0 M3
set_option maxHeartbeats 4000000 in
set_option maxRecDepth 100000 in
theorem wk_X4_wrong {l : Launch} (hst0 : l.stackTraces = false) {G : mG} {b : Nat} {P : Int32 → mM → Prop} {M : mM} {a0 : Nat} {x1 : Int32} (h : wp_X4_wrong G b P M a0 x1) : mMet l yX4_wrong (ws_ yX4_wrong cX4_wrong 2 (Option.some Jvm.ClassFile.FieldType.boolean)) 10 b G [.ref a0, .int x1] M (mRi P) (fun _ _ _ => False) := by
  refine mm_met hst0 (by decide) (Nat.le_of_ble_eq_true rfl) ?_
  intro p e s m args below meth c ls C hr hnt hnm hl S
  have hl : lv_has ls 2 [(0, .ref a0), (1, .int x1)] := hl
  generalize mA M s.heap.size = A at C S ⊢
  have hx := C.hx
  have hb := C.hb
  have hk : 0 + b ≤ b := Nat.le_of_eq (Nat.zero_add b)
  unfold wp_X4_wrong at h
  refine lv_aload_n hx hb dX4_wrong_0 rfl (lv_at hl 0 rfl) ?_
  refine lv_iload_n hx hb dX4_wrong_1 rfl (lv_at hl 1 rfl) ?_
  refine mm_pfi C S (ci := 3) (k := 20) rfl in_X4 tyX4_ok nmX4 (by decide) q1690 (fun _ h9 => h9) rfl dX4_wrong_2 rfl h (fun M1 H locs h S => ?_)
  refine lv_aload_n hx hb dX4_wrong_5 rfl (lv_at hl 0 rfl) ?_
  refine lv_aload_n hx hb dX4_wrong_6 rfl (lv_at hl 0 rfl) ?_
  refine mm_gfi C S (ci := 3) (k := 19) rfl in_X4 (by decide) q1689 (fun _ h9 => h9) dX4_wrong_7 h (fun v2 h => ?_)
  refine mm_pfi C S (ci := 3) (k := 21) rfl in_X4 tyX4_ok nmX4 (by decide) q1691 (fun _ h9 => h9) rfl dX4_wrong_10 rfl h (fun M3 H locs h S => ?_)
  refine lv_iconst (v := 0) hx hb dX4_wrong_13 (by decide) ?_
  exact mm_zret C S hr (Nat.le_trans (Nat.le_add_right _ _) hk) dX4_wrong_14 h
/-! X4_step: level 11 -/
def wb_X4_step_126 (G : mG) (P : Int32 → mM → Prop) (r : Nat) (M : mM) (a0 : Nat) : Prop :=
  isc M a0 3 ∧ (wp_X4_wrong G 0 (fun v26 M25 => narrow .boolean (.int v26) = .int v26 ∧ P v26 M25) M a0 4)
def wb_X4_step_104 (G : mG) (P : Int32 → mM → Prop) (r : Nat) (M : mM) (a0 : Nat) (x5 : Int32) (s0 : Int32) : Prop :=
  wp_X4_isIn G 0 (fun v12 M11 => (v12 = 0 → wb_X4_step_126 G P r M11 a0) ∧ (¬ v12 = 0 → wp_X4_isIn G 0 (fun v14 M13 => (¬ v14 = 0 → pfi M13 a0 3 25 ((6 * x5) + s0) fun M15 => gfa M15 a0 3 26 fun u16 => gfi M15 a0 3 24 fun v17 => lda M15 8 u16 v17 fun u18 => gfa M15 a0 3 23 fun u19 => gfi M15 a0 3 24 fun v20 => ldi M15 0 u19 v20 fun v21 => sti M15 0 u19 v20 (v21 + 1) fun M22 => gfi M22 a0 3 25 fun v23 => sti M22 0 u18 v21 v23 fun M24 => narrow .boolean (.int 1) = .int 1 ∧ P 1 M24) ∧ (v14 = 0 → wb_X4_step_126 G P r M13 a0)) M11 s0 0 5)) M x5 0 5
def wb_X4_step_74 (G : mG) (P : Int32 → mM → Prop) (r : Nat) (M : mM) (a0 : Nat) (x2 : Int32) (x4 : Int32) (s0 : Int32) : Prop :=
  (¬ x2 = 69 → (¬ x2 = 87 → wb_X4_step_104 G P r M a0 s0 x4) ∧ (x2 = 87 → wb_X4_step_104 G P r M a0 s0 (x4 - 1))) ∧ (x2 = 69 → wb_X4_step_104 G P r M a0 s0 (x4 + 1))
def wp_X4_step (G : mG) (b : Nat) (P : Int32 → mM → Prop) (M : mM) (a0 : Nat) (x1 : Int32) : Prop :=
  gfa M a0 3 22 fun u1 => ldi M 0 u1 x1 fun v2 => gfi M a0 3 25 fun v3 => gfi M a0 3 25 fun v4 => pfi M a0 3 19 x1 fun M5 => gfa M5 a0 3 23 fun u6 => gfi M5 a0 3 24 fun v7 => ldi M5 0 u6 v7 fun v8 => (¬ v8 = 31 → (¬ v2 = 78 → (¬ v2 = 83 → wb_X4_step_74 G P b M5 a0 v2 (v4 - v4 / 6 * 6) (v3 / 6)) ∧ (v2 = 83 → wb_X4_step_74 G P b M5 a0 v2 (v4 - v4 / 6 * 6) ((v3 / 6) + 1))) ∧ (v2 = 78 → wb_X4_step_74 G P b M5 a0 v2 (v4 - v4 / 6 * 6) ((v3 / 6) - 1))) ∧ (v8 = 31 → isc M5 a0 3 ∧ (wp_X4_wrong G 0 (fun v10 M9 => narrow .boolean (.int v10) = .int v10 ∧ P v10 M9) M5 a0 3))
set_option maxHeartbeats 4000000 in
set_option maxRecDepth 100000 in
theorem wk_X4_step {l : Launch} (hst0 : l.stackTraces = false) {G : mG} {b : Nat} {P : Int32 → mM → Prop} {M : mM} {a0 : Nat} {x1 : Int32} (h : wp_X4_step G b P M a0 x1) : mMet l yX4_step (ws_ yX4_step cX4_step 7 (Option.some Jvm.ClassFile.FieldType.boolean)) 11 b G [.ref a0, .int x1] M (mRi P) (fun _ _ _ => False) := by
  refine mm_met hst0 (by decide) (Nat.le_of_ble_eq_true rfl) ?_
  intro p e s m args below meth c ls C hr hnt hnm hl S
  have hl : lv_has ls 7 [(0, .ref a0), (1, .int x1)] := hl
  generalize mA M s.heap.size = A at C S ⊢
  have hx := C.hx
  have hb := C.hb
  have hk : 0 + b ≤ b := Nat.le_of_eq (Nat.zero_add b)
  have j126 : ∀ (k r : Nat) (M : mM) (H : Heap) (locs : List Loc) (ls : Array Slot) (a0 : Nat), k + r ≤ b → mW G A s M H locs → lv_has ls 7 [(0, .ref a0)] → wb_X4_step_126 G P r M a0 → W p l e (mRm 11 b) s m args below meth c H locs k k (vx_MQ below (mQ G A (mRi P)) (mXC G A (fun _ _ _ => False)) args s b b A) (F0 m 126 ls []) := by
    intro k r M H locs ls a0 hk S hl h
    unfold wb_X4_step_126 at h
    refine lv_aload_n hx hb dX4_step_126 rfl (lv_at hl 0 rfl) ?_
    refine lv_iconst (v := 4) hx hb dX4_step_127 (by decide) ?_
    obtain ⟨hI, h⟩ := h
    refine mm_V (As := [.int 4]) (rest := []) C S hl.1 (wk_X4_wrong hst0 h) (T := TX4) rfl hI (lw_V q1913 q1915 qs30 q58 q1916) rfl pd_X4_wrong ⟨Nat.le_of_ble_eq_true rfl, Nat.le_of_ble_eq_true rfl⟩ rfl rfl (Nat.le_of_ble_eq_true rfl) dX4_step_128 rfl rfl hk (Nat.zero_add _) (fun v9 M25 H locs hP S hk => ?_) (fun E q ce M9 H9 locs9 hX => hX.elim)
    obtain ⟨v26, rfl, h⟩ := hP
    refine W.eq (g2 := F0 m 131 ls [.int v26]) rfl ?_
    exact mm_zret C S hr (Nat.le_trans (Nat.le_add_right _ _) hk) dX4_step_131 h
  have j104 : ∀ (k r : Nat) (M : mM) (H : Heap) (locs : List Loc) (ls : Array Slot) (a0 : Nat) (x5 : Int32) (s0 : Int32), k + r ≤ b → mW G A s M H locs → lv_has ls 7 [(0, .ref a0), (5, .int x5)] → wb_X4_step_104 G P r M a0 x5 s0 → W p l e (mRm 11 b) s m args below meth c H locs k k (vx_MQ below (mQ G A (mRi P)) (mXC G A (fun _ _ _ => False)) args s b b A) (F0 m 104 ls [.int s0]) := by
    intro k r M H locs ls a0 x5 s0 hk S hl h
    unfold wb_X4_step_104 at h
    refine lv_istore (lv' := [(6, .int s0), (0, .ref a0), (5, .int x5)]) hx hb dX4_step_104 hl (by decide) rfl (fun ls hl => ?_)
    refine lv_iload hx hb dX4_step_106 (lv_at hl 2 rfl) ?_
    refine lv_iconst (v := 0) hx hb dX4_step_108 (by decide) ?_
    refine lv_iconst (v := 5) hx hb dX4_step_109 (by decide) ?_
    refine mm_S (As := [.int x5, .int 0, .int 5]) (rest := []) C S hl.1 (wk_X4_isIn hst0 h) (lw_S q1830 q1831 q58 q1832) pd_X4_isIn ⟨Nat.le_of_ble_eq_true rfl, Nat.le_of_ble_eq_true rfl⟩ rfl rfl (Nat.le_of_ble_eq_true rfl) dX4_step_110 rfl rfl hk (Nat.zero_add _) (fun v9 M11 H locs hP S hk => ?_) (fun E q ce M9 H9 locs9 hX => hX.elim)
    obtain ⟨v12, rfl, h⟩ := hP
    refine W.eq (g2 := F0 m 113 ls [.int v12]) rfl ?_
    refine lv_if_eq (tgt := 126) hx hb dX4_step_113 (by decide) (fun c9 => ?_) (fun c9 => ?_)
    · have h := h.1 c9
      exact j126 _ _ _ _ _ _ _ hk S (lv_sub hl [1] rfl) h
    · have h := h.2 c9
      refine lv_iload hx hb dX4_step_116 (lv_at hl 0 rfl) ?_
      refine lv_iconst (v := 0) hx hb dX4_step_118 (by decide) ?_
      refine lv_iconst (v := 5) hx hb dX4_step_119 (by decide) ?_
      refine mm_S (As := [.int s0, .int 0, .int 5]) (rest := []) C S hl.1 (wk_X4_isIn hst0 h) (lw_S q1830 q1831 q58 q1832) pd_X4_isIn ⟨Nat.le_of_ble_eq_true rfl, Nat.le_of_ble_eq_true rfl⟩ rfl rfl (Nat.le_of_ble_eq_true rfl) dX4_step_120 rfl rfl hk (Nat.zero_add _) (fun v9 M13 H locs hP S hk => ?_) (fun E q ce M9 H9 locs9 hX => hX.elim)
      obtain ⟨v14, rfl, h⟩ := hP
      refine W.eq (g2 := F0 m 123 ls [.int v14]) rfl ?_
      refine lv_if_ne (tgt := 132) hx hb dX4_step_123 (by decide) (fun c9 => ?_) (fun c9 => ?_)
      · have h := h.1 c9
        refine lv_aload_n hx hb dX4_step_132 rfl (lv_at hl 1 rfl) ?_
        refine lv_bipush (v := 6) hx hb dX4_step_133 (by decide) ?_
        refine lv_iload hx hb dX4_step_135 (lv_at hl 2 rfl) ?_
        refine lv_imul hx hb dX4_step_137 ?_
        refine lv_iload hx hb dX4_step_138 (lv_at hl 0 rfl) ?_
        refine lv_iadd hx hb dX4_step_140 ?_
        refine mm_pfi C S (ci := 3) (k := 25) rfl in_X4 tyX4_ok nmX4 (by decide) q1695 (fun _ h9 => h9) rfl dX4_step_141 rfl h (fun M15 H locs h S => ?_)
        refine lv_aload_n hx hb dX4_step_144 rfl (lv_at hl 1 rfl) ?_
        refine mm_gfa C S (ci := 3) (k := 26) rfl in_X4 (by decide) q1696 (fun _ h9 => h9) dX4_step_145 h (fun u16 h => ?_)
        refine lv_aload_n hx hb dX4_step_148 rfl (lv_at hl 1 rfl) ?_
        refine mm_gfi C S (ci := 3) (k := 24) rfl in_X4 (by decide) q1694 (fun _ h9 => h9) dX4_step_149 h (fun v17 h => ?_)
        refine mm_aald C S (t := 8) rfl rfl h dX4_step_152 (fun u18 h => ?_)
        refine lv_aload_n hx hb dX4_step_153 rfl (lv_at hl 1 rfl) ?_
        refine mm_gfa C S (ci := 3) (k := 23) rfl in_X4 (by decide) q1693 (fun _ h9 => h9) dX4_step_154 h (fun u19 h => ?_)
        refine lv_aload_n hx hb dX4_step_157 rfl (lv_at hl 1 rfl) ?_
        refine mm_gfi C S (ci := 3) (k := 24) rfl in_X4 (by decide) q1694 (fun _ h9 => h9) dX4_step_158 h (fun v20 h => ?_)
        refine lv_dup2_11 hx hb dX4_step_161 rfl rfl ?_
        refine mm_iald C S h dX4_step_162 (fun v21 h => ?_)
        refine lv_dup_x2 hx hb dX4_step_163 rfl rfl rfl ?_
        refine lv_iconst (v := 1) hx hb dX4_step_164 (by decide) ?_
        refine lv_iadd hx hb dX4_step_165 ?_
        refine mm_iast C S h dX4_step_166 (fun M22 H locs h S => ?_)
        refine lv_aload_n hx hb dX4_step_167 rfl (lv_at hl 1 rfl) ?_
        refine mm_gfi C S (ci := 3) (k := 25) rfl in_X4 (by decide) q1695 (fun _ h9 => h9) dX4_step_168 h (fun v23 h => ?_)
        refine mm_iast C S h dX4_step_171 (fun M24 H locs h S => ?_)
        refine lv_iconst (v := 1) hx hb dX4_step_172 (by decide) ?_
        exact mm_zret C S hr (Nat.le_trans (Nat.le_add_right _ _) hk) dX4_step_173 h
      · have h := h.2 c9
        exact j126 _ _ _ _ _ _ _ hk S (lv_sub hl [1] rfl) h
  have j74 : ∀ (k r : Nat) (M : mM) (H : Heap) (locs : List Loc) (ls : Array Slot) (a0 : Nat) (x2 : Int32) (x4 : Int32) (s0 : Int32), k + r ≤ b → mW G A s M H locs → lv_has ls 7 [(0, .ref a0), (2, .int x2), (4, .int x4)] → wb_X4_step_74 G P r M a0 x2 x4 s0 → W p l e (mRm 11 b) s m args below meth c H locs k k (vx_MQ below (mQ G A (mRi P)) (mXC G A (fun _ _ _ => False)) args s b b A) (F0 m 74 ls [.int s0]) := by
    intro k r M H locs ls a0 x2 x4 s0 hk S hl h
    unfold wb_X4_step_74 at h
    refine lv_istore (lv' := [(5, .int s0), (0, .ref a0), (2, .int x2), (4, .int x4)]) hx hb dX4_step_74 hl (by decide) rfl (fun ls hl => ?_)
    refine lv_iload_n hx hb dX4_step_76 rfl (lv_at hl 2 rfl) ?_
    refine lv_bipush (v := 69) hx hb dX4_step_77 (by decide) ?_
    refine lv_icmp_ne (tgt := 89) hx hb dX4_step_79 (by decide) (fun c9 => ?_) (fun c9 => ?_)
    · have h := h.1 c9
      refine lv_iload_n hx hb dX4_step_89 rfl (lv_at hl 2 rfl) ?_
      refine lv_bipush (v := 87) hx hb dX4_step_90 (by decide) ?_
      refine lv_icmp_ne (tgt := 102) hx hb dX4_step_92 (by decide) (fun c9 => ?_) (fun c9 => ?_)
      · have h := h.1 c9
        refine lv_iload hx hb dX4_step_102 (lv_at hl 3 rfl) ?_
        exact j104 _ _ _ _ _ _ _ _ _ hk S (lv_sub hl [1, 0] rfl) h
      · have h := h.2 c9
        refine lv_iload hx hb dX4_step_95 (lv_at hl 3 rfl) ?_
        refine lv_iconst (v := 1) hx hb dX4_step_97 (by decide) ?_
        refine lv_isub hx hb dX4_step_98 ?_
        refine lv_goto (tgt := 104) hx hb dX4_step_99 (by decide) ?_
        exact j104 _ _ _ _ _ _ _ _ _ hk S (lv_sub hl [1, 0] rfl) h
    · have h := h.2 c9
      refine lv_iload hx hb dX4_step_82 (lv_at hl 3 rfl) ?_
      refine lv_iconst (v := 1) hx hb dX4_step_84 (by decide) ?_
      refine lv_iadd hx hb dX4_step_85 ?_
      refine lv_goto (tgt := 104) hx hb dX4_step_86 (by decide) ?_
      exact j104 _ _ _ _ _ _ _ _ _ hk S (lv_sub hl [1, 0] rfl) h
  unfold wp_X4_step at h
  refine lv_aload_n hx hb dX4_step_0 rfl (lv_at hl 0 rfl) ?_
  refine mm_gfa C S (ci := 3) (k := 22) rfl in_X4 (by decide) q1692 (fun _ h9 => h9) dX4_step_1 h (fun u1 h => ?_)
  refine lv_iload_n hx hb dX4_step_4 rfl (lv_at hl 1 rfl) ?_
  refine mm_iald C S h dX4_step_5 (fun v2 h => ?_)
  refine lv_istore_n (lv' := [(2, .int v2), (0, .ref a0), (1, .int x1)]) hx hb dX4_step_6 rfl hl (by decide) rfl (fun ls hl => ?_)
  refine lv_aload_n hx hb dX4_step_7 rfl (lv_at hl 1 rfl) ?_
  refine mm_gfi C S (ci := 3) (k := 25) rfl in_X4 (by decide) q1695 (fun _ h9 => h9) dX4_step_8 h (fun v3 h => ?_)
  refine lv_bipush (v := 6) hx hb dX4_step_11 (by decide) ?_
  refine lv_idiv hx hb dX4_step_13 (by decide) ?_
  refine lv_istore_n (lv' := [(3, .int (v3 / 6)), (2, .int v2), (0, .ref a0), (1, .int x1)]) hx hb dX4_step_14 rfl hl (by decide) rfl (fun ls hl => ?_)
  refine lv_aload_n hx hb dX4_step_15 rfl (lv_at hl 2 rfl) ?_
  refine mm_gfi C S (ci := 3) (k := 25) rfl in_X4 (by decide) q1695 (fun _ h9 => h9) dX4_step_16 h (fun v4 h => ?_)
  refine lv_bipush (v := 6) hx hb dX4_step_19 (by decide) ?_
  refine lv_irem hx hb dX4_step_21 (by decide) ?_
  refine lv_istore (lv' := [(4, .int (v4 - v4 / 6 * 6)), (3, .int (v3 / 6)), (2, .int v2), (0, .ref a0), (1, .int x1)]) hx hb dX4_step_22 hl (by decide) rfl (fun ls hl => ?_)
  refine lv_aload_n hx hb dX4_step_24 rfl (lv_at hl 3 rfl) ?_
  refine lv_iload_n hx hb dX4_step_25 rfl (lv_at hl 4 rfl) ?_
  refine mm_pfi C S (ci := 3) (k := 19) rfl in_X4 tyX4_ok nmX4 (by decide) q1689 (fun _ h9 => h9) rfl dX4_step_26 rfl h (fun M5 H locs h S => ?_)
  refine lv_aload_n hx hb dX4_step_29 rfl (lv_at hl 3 rfl) ?_
  refine mm_gfa C S (ci := 3) (k := 23) rfl in_X4 (by decide) q1693 (fun _ h9 => h9) dX4_step_30 h (fun u6 h => ?_)
  refine lv_aload_n hx hb dX4_step_33 rfl (lv_at hl 3 rfl) ?_
  refine mm_gfi C S (ci := 3) (k := 24) rfl in_X4 (by decide) q1694 (fun _ h9 => h9) dX4_step_34 h (fun v7 h => ?_)
  refine mm_iald C S h dX4_step_37 (fun v8 h => ?_)
  refine lv_bipush (v := 31) hx hb dX4_step_38 (by decide) ?_
  refine lv_icmp_ne (tgt := 49) hx hb dX4_step_40 (by decide) (fun c9 => ?_) (fun c9 => ?_)
  · have h := h.1 c9
    refine lv_iload_n hx hb dX4_step_49 rfl (lv_at hl 2 rfl) ?_
    refine lv_bipush (v := 78) hx hb dX4_step_50 (by decide) ?_
    refine lv_icmp_ne (tgt := 61) hx hb dX4_step_52 (by decide) (fun c9 => ?_) (fun c9 => ?_)
    · have h := h.1 c9
      refine lv_iload_n hx hb dX4_step_61 rfl (lv_at hl 2 rfl) ?_
      refine lv_bipush (v := 83) hx hb dX4_step_62 (by decide) ?_
      refine lv_icmp_ne (tgt := 73) hx hb dX4_step_64 (by decide) (fun c9 => ?_) (fun c9 => ?_)
      · have h := h.1 c9
        refine lv_iload_n hx hb dX4_step_73 rfl (lv_at hl 1 rfl) ?_
        exact j74 _ _ _ _ _ _ _ _ _ _ hk S (lv_sub hl [3, 2, 0] rfl) h
      · have h := h.2 c9
        refine lv_iload_n hx hb dX4_step_67 rfl (lv_at hl 1 rfl) ?_
        refine lv_iconst (v := 1) hx hb dX4_step_68 (by decide) ?_
        refine lv_iadd hx hb dX4_step_69 ?_
        refine lv_goto (tgt := 74) hx hb dX4_step_70 (by decide) ?_
        exact j74 _ _ _ _ _ _ _ _ _ _ hk S (lv_sub hl [3, 2, 0] rfl) h
    · have h := h.2 c9
      refine lv_iload_n hx hb dX4_step_55 rfl (lv_at hl 1 rfl) ?_
      refine lv_iconst (v := 1) hx hb dX4_step_56 (by decide) ?_
      refine lv_isub hx hb dX4_step_57 ?_
      refine lv_goto (tgt := 74) hx hb dX4_step_58 (by decide) ?_
      exact j74 _ _ _ _ _ _ _ _ _ _ hk S (lv_sub hl [3, 2, 0] rfl) h
  · have h := h.2 c9
    refine lv_aload_n hx hb dX4_step_43 rfl (lv_at hl 3 rfl) ?_
    refine lv_iconst (v := 3) hx hb dX4_step_44 (by decide) ?_
    obtain ⟨hI, h⟩ := h
    refine mm_V (As := [.int 3]) (rest := []) C S hl.1 (wk_X4_wrong hst0 h) (T := TX4) rfl hI (lw_V q1913 q1915 qs30 q58 q1916) rfl pd_X4_wrong ⟨Nat.le_of_ble_eq_true rfl, Nat.le_of_ble_eq_true rfl⟩ rfl rfl (Nat.le_of_ble_eq_true rfl) dX4_step_45 rfl rfl hk (Nat.zero_add _) (fun v9 M9 H locs hP S hk => ?_) (fun E q ce M9 H9 locs9 hX => hX.elim)
    obtain ⟨v10, rfl, h⟩ := hP
    refine W.eq (g2 := F0 m 48 ls [.int v10]) rfl ?_
    exact mm_zret C S hr (Nat.le_trans (Nat.le_add_right _ _) hk) dX4_step_48 h
/-! X4_go: level 19 -/
def wb_X4_go_132 (R_X4_go : mG → Nat → (Int32 → mM → Prop) → mM → Nat → Int32 → Int32 → Prop) (G : mG) (P : Int32 → mM → Prop) (K2 : Nat → mM → Nat → Int32 → Int32 → Prop) (r : Nat) (M : mM) (a0 : Nat) (x2 : Int32) (s0 : Int32) : Prop :=
  K2 r M a0 x2 s0
def wb_X4_go_110 (R_X4_go : mG → Nat → (Int32 → mM → Prop) → mM → Nat → Int32 → Int32 → Prop) (G : mG) (P : Int32 → mM → Prop) (K2 : Nat → mM → Nat → Int32 → Int32 → Prop) (K72 : Nat → mM → Nat → Int32 → Int32 → Int32 → Int32 → Int32 → Int32 → Prop) (r : Nat) (M : mM) (a0 : Nat) (x2 : Int32) (x3 : Int32) (x4 : Int32) (x5 : Int32) (x6 : Int32) (x7 : Int32) : Prop :=
  K72 r M a0 x2 x3 x4 x5 x6 (x7 + 1)
def wb_X4_go_108 (R_X4_go : mG → Nat → (Int32 → mM → Prop) → mM → Nat → Int32 → Int32 → Prop) (G : mG) (P : Int32 → mM → Prop) (r : Nat) (M : mM) : Prop :=
  narrow .boolean (.int 0) = .int 0 ∧ P 0 M
def wl_X4_go_72 (R_X4_go : mG → Nat → (Int32 → mM → Prop) → mM → Nat → Int32 → Int32 → Prop) (G : mG) (P : Int32 → mM → Prop) (K2 : Nat → mM → Nat → Int32 → Int32 → Prop) : Nat → Nat → mM → Nat → Int32 → Int32 → Int32 → Int32 → Int32 → Int32 → Prop
  | 0, _, _, _, _, _, _, _, _, _ => False
  | n + 1, r, M, a0, x2, x3, x4, x5, x6, x7 => (x6 ≤ x7 → (x5 = 0 → wb_X4_go_132 R_X4_go G P K2 r M a0 x2 (x4 + 1)) ∧ (¬ x5 = 0 → wb_X4_go_132 R_X4_go G P K2 r M a0 x2 (x4 + 2))) ∧ (¬ x6 ≤ x7 → (¬ x4 = x3 → isc M a0 3 ∧ (R_X4_go G 0 (fun v12 M11 => (¬ v12 = 0 → wb_X4_go_110 R_X4_go G P K2 (wl_X4_go_72 R_X4_go G P K2 n) r M11 a0 x2 x3 x4 x5 x6 x7) ∧ (v12 = 0 → wb_X4_go_108 R_X4_go G P r M11)) M a0 (x3 + 1) x4)) ∧ (x4 = x3 → isc M a0 3 ∧ (wp_X4_step G 0 (fun v14 M13 => (v14 = 0 → wb_X4_go_108 R_X4_go G P r M13) ∧ (¬ v14 = 0 → wb_X4_go_110 R_X4_go G P K2 (wl_X4_go_72 R_X4_go G P K2 n) r M13 a0 x2 x3 x4 x5 x6 x7)) M a0 x3)))
def wb_X4_go_67 (R_X4_go : mG → Nat → (Int32 → mM → Prop) → mM → Nat → Int32 → Int32 → Prop) (G : mG) (P : Int32 → mM → Prop) (K2 : Nat → mM → Nat → Int32 → Int32 → Prop) (r : Nat) (M : mM) (a0 : Nat) (x2 : Int32) (x3 : Int32) (x4 : Int32) (x5 : Int32) (s0 : Int32) : Prop :=
  ∃ n72, wl_X4_go_72 R_X4_go G P K2 n72 r M a0 x2 x3 x4 x5 s0 0
def wb_X4_go_27 (R_X4_go : mG → Nat → (Int32 → mM → Prop) → mM → Nat → Int32 → Int32 → Prop) (G : mG) (P : Int32 → mM → Prop) (K2 : Nat → mM → Nat → Int32 → Int32 → Prop) (r : Nat) (M : mM) (a0 : Nat) (x2 : Int32) (x3 : Int32) (s0 : Int32) : Prop :=
  isc M a0 3 ∧ (wp_X4_letter G 0 (fun v6 M5 => wp_X4_isIn G 0 (fun v8 M7 => (v8 = 0 → wb_X4_go_67 R_X4_go G P K2 r M7 a0 x2 x3 s0 v8 1) ∧ (¬ v8 = 0 → gfa M7 a0 3 22 fun u9 => ldi M7 0 u9 (s0 + 1) fun v10 => wb_X4_go_67 R_X4_go G P K2 r M7 a0 x2 x3 s0 v8 (v10 - 48))) M5 v6 50 57) M a0 (s0 + 1))
def wl_X4_go_2 (R_X4_go : mG → Nat → (Int32 → mM → Prop) → mM → Nat → Int32 → Int32 → Prop) (G : mG) (P : Int32 → mM → Prop) : Nat → Nat → mM → Nat → Int32 → Int32 → Prop
  | 0, _, _, _, _, _ => False
  | n + 1, r, M, a0, x2, x3 => (x2 ≤ x3 → narrow .boolean (.int 1) = .int 1 ∧ P 1 M) ∧ (¬ x2 ≤ x3 → gfa M a0 3 22 fun u1 => ldi M 0 u1 x3 fun v2 => (¬ v2 = 40 → wb_X4_go_27 R_X4_go G P (wl_X4_go_2 R_X4_go G P n) r M a0 x2 x3 x3) ∧ (v2 = 40 → isc M a0 3 ∧ (wp_X4_closing G 0 (fun v4 M3 => wb_X4_go_27 R_X4_go G P (wl_X4_go_2 R_X4_go G P n) r M3 a0 x2 x3 v4) M a0 x3)))
def wp_X4_go (R_X4_go : mG → Nat → (Int32 → mM → Prop) → mM → Nat → Int32 → Int32 → Prop) (G : mG) (b : Nat) (P : Int32 → mM → Prop) (M : mM) (a0 : Nat) (x1 : Int32) (x2 : Int32) : Prop :=
  ∃ n2, wl_X4_go_2 R_X4_go G P n2 b M a0 x2 x1
set_option maxHeartbeats 4000000 in
set_option maxRecDepth 100000 in
theorem wks_X4_go {l : Launch} (hst0 : l.stackTraces = false) {Lr : Nat} (hLr : 12 ≤ Lr) {R_X4_go : mG → Nat → (Int32 → mM → Prop) → mM → Nat → Int32 → Int32 → Prop} (hrec_X4_go : ∀ {G : mG} {b : Nat} {P : Int32 → mM → Prop} {M : mM} {a0 : Nat} {x1 : Int32} {x2 : Int32}, R_X4_go G b P M a0 x1 x2 → mMet l yX4_go (ws_ yX4_go cX4_go 8 (Option.some Jvm.ClassFile.FieldType.boolean)) Lr b G [.ref a0, .int x1, .int x2] M (mRi P) (fun _ _ _ => False)) {G : mG} {b : Nat} {P : Int32 → mM → Prop} {M : mM} {a0 : Nat} {x1 : Int32} {x2 : Int32} (h : wp_X4_go R_X4_go G b P M a0 x1 x2) : mMet l yX4_go (ws_ yX4_go cX4_go 8 (Option.some Jvm.ClassFile.FieldType.boolean)) (Lr + 1) b G [.ref a0, .int x1, .int x2] M (mRi P) (fun _ _ _ => False) := by
  refine mm_met hst0 (by decide) (Nat.le_of_ble_eq_true rfl) ?_
  intro p e s m args below meth c ls C hr hnt hnm hl S
  have hl : lv_has ls 8 [(0, .ref a0), (1, .int x1), (2, .int x2)] := hl
  generalize mA M s.heap.size = A at C S ⊢
  have hx := C.hx
  have hb := C.hb
  have hk : 0 + b ≤ b := Nat.le_of_eq (Nat.zero_add b)
  have j108 : ∀ (k r : Nat) (M : mM) (H : Heap) (locs : List Loc) (ls : Array Slot), k + r ≤ b → mW G A s M H locs → lv_has ls 8 [] → wb_X4_go_108 R_X4_go G P r M → W p l e (mRm (Lr + 1) b) s m args below meth c H locs k k (vx_MQ below (mQ G A (mRi P)) (mXC G A (fun _ _ _ => False)) args s b b A) (F0 m 108 ls []) := by
    intro k r M H locs ls  hk S hl h
    unfold wb_X4_go_108 at h
    refine lv_iconst (v := 0) hx hb dX4_go_108 (by decide) ?_
    exact mm_zret C S hr (Nat.le_trans (Nat.le_add_right _ _) hk) dX4_go_109 h
  have j2 : ∀ (nf : Nat) (k r : Nat) (M : mM) (H : Heap) (locs : List Loc) (ls : Array Slot) (a0 : Nat) (x2 : Int32) (x3 : Int32), k + r ≤ b → mW G A s M H locs → lv_has ls 8 [(0, .ref a0), (2, .int x2), (3, .int x3)] → wl_X4_go_2 R_X4_go G P nf r M a0 x2 x3 → W p l e (mRm (Lr + 1) b) s m args below meth c H locs k k (vx_MQ below (mQ G A (mRi P)) (mXC G A (fun _ _ _ => False)) args s b b A) (F0 m 2 ls []) := by
    intro nf
    induction nf with
    | zero =>
      intro k r M H locs ls a0 x2 x3 hk S hl h
      rw [wl_X4_go_2] at h
      exact h.elim
    | succ n2 ih2 =>
      have j132 : ∀ (k r : Nat) (M : mM) (H : Heap) (locs : List Loc) (ls : Array Slot) (a0 : Nat) (x2 : Int32) (s0 : Int32), k + r ≤ b → mW G A s M H locs → lv_has ls 8 [(0, .ref a0), (2, .int x2)] → wb_X4_go_132 R_X4_go G P (wl_X4_go_2 R_X4_go G P n2) r M a0 x2 s0 → W p l e (mRm (Lr + 1) b) s m args below meth c H locs k k (vx_MQ below (mQ G A (mRi P)) (mXC G A (fun _ _ _ => False)) args s b b A) (F0 m 132 ls [.int s0]) := by
        intro k r M H locs ls a0 x2 s0 hk S hl h
        unfold wb_X4_go_132 at h
        refine lv_istore_n (lv' := [(3, .int s0), (0, .ref a0), (2, .int x2)]) hx hb dX4_go_132 rfl hl (by decide) rfl (fun ls hl => ?_)
        refine lv_goto (tgt := 2) hx hb dX4_go_133 (by decide) ?_
        exact ih2 _ _ _ _ _ _ _ _ _ hk S (lv_sub hl [1, 2, 0] rfl) h
      have j72 : ∀ (nf : Nat) (k r : Nat) (M : mM) (H : Heap) (locs : List Loc) (ls : Array Slot) (a0 : Nat) (x2 : Int32) (x3 : Int32) (x4 : Int32) (x5 : Int32) (x6 : Int32) (x7 : Int32), k + r ≤ b → mW G A s M H locs → lv_has ls 8 [(0, .ref a0), (2, .int x2), (3, .int x3), (4, .int x4), (5, .int x5), (6, .int x6), (7, .int x7)] → wl_X4_go_72 R_X4_go G P (wl_X4_go_2 R_X4_go G P n2) nf r M a0 x2 x3 x4 x5 x6 x7 → W p l e (mRm (Lr + 1) b) s m args below meth c H locs k k (vx_MQ below (mQ G A (mRi P)) (mXC G A (fun _ _ _ => False)) args s b b A) (F0 m 72 ls []) := by
        intro nf
        induction nf with
        | zero =>
          intro k r M H locs ls a0 x2 x3 x4 x5 x6 x7 hk S hl h
          rw [wl_X4_go_72] at h
          exact h.elim
        | succ n72 ih72 =>
          have j110 : ∀ (k r : Nat) (M : mM) (H : Heap) (locs : List Loc) (ls : Array Slot) (a0 : Nat) (x2 : Int32) (x3 : Int32) (x4 : Int32) (x5 : Int32) (x6 : Int32) (x7 : Int32), k + r ≤ b → mW G A s M H locs → lv_has ls 8 [(0, .ref a0), (2, .int x2), (3, .int x3), (4, .int x4), (5, .int x5), (6, .int x6), (7, .int x7)] → wb_X4_go_110 R_X4_go G P (wl_X4_go_2 R_X4_go G P n2) (wl_X4_go_72 R_X4_go G P (wl_X4_go_2 R_X4_go G P n2) n72) r M a0 x2 x3 x4 x5 x6 x7 → W p l e (mRm (Lr + 1) b) s m args below meth c H locs k k (vx_MQ below (mQ G A (mRi P)) (mXC G A (fun _ _ _ => False)) args s b b A) (F0 m 110 ls []) := by
            intro k r M H locs ls a0 x2 x3 x4 x5 x6 x7 hk S hl h
            unfold wb_X4_go_110 at h
            refine lv_iinc (v := (x7 + 1)) (lv' := [(7, .int (x7 + 1)), (0, .ref a0), (2, .int x2), (3, .int x3), (4, .int x4), (5, .int x5), (6, .int x6)]) hx hb dX4_go_110 hl (k := 6) rfl rfl (by decide) rfl (fun ls hl => ?_)
            refine lv_goto (tgt := 72) hx hb dX4_go_113 (by decide) ?_
            exact ih72 _ _ _ _ _ _ _ _ _ _ _ _ _ hk S (lv_sub hl [1, 2, 3, 4, 5, 6, 0] rfl) h
          intro k r M H locs ls a0 x2 x3 x4 x5 x6 x7 hk S hl h
          rw [wl_X4_go_72] at h
          refine lv_iload hx hb dX4_go_72 (lv_at hl 6 rfl) ?_
          refine lv_iload hx hb dX4_go_74 (lv_at hl 5 rfl) ?_
          refine lv_icmp_ge (tgt := 116) hx hb dX4_go_76 (by decide) (fun c9 => ?_) (fun c9 => ?_)
          · have h := h.1 c9
            refine lv_iload hx hb dX4_go_116 (lv_at hl 4 rfl) ?_
            refine lv_if_eq (tgt := 128) hx hb dX4_go_118 (by decide) (fun c9 => ?_) (fun c9 => ?_)
            · have h := h.1 c9
              refine lv_iload hx hb dX4_go_128 (lv_at hl 3 rfl) ?_
              refine lv_iconst (v := 1) hx hb dX4_go_130 (by decide) ?_
              refine lv_iadd hx hb dX4_go_131 ?_
              exact j132 _ _ _ _ _ _ _ _ _ hk S (lv_sub hl [0, 1] rfl) h
            · have h := h.2 c9
              refine lv_iload hx hb dX4_go_121 (lv_at hl 3 rfl) ?_
              refine lv_iconst (v := 2) hx hb dX4_go_123 (by decide) ?_
              refine lv_iadd hx hb dX4_go_124 ?_
              refine lv_goto (tgt := 132) hx hb dX4_go_125 (by decide) ?_
              exact j132 _ _ _ _ _ _ _ _ _ hk S (lv_sub hl [0, 1] rfl) h
          · have h := h.2 c9
            refine lv_iload hx hb dX4_go_79 (lv_at hl 3 rfl) ?_
            refine lv_iload_n hx hb dX4_go_81 rfl (lv_at hl 2 rfl) ?_
            refine lv_icmp_ne (tgt := 96) hx hb dX4_go_82 (by decide) (fun c9 => ?_) (fun c9 => ?_)
            · have h := h.1 c9
              refine lv_aload_n hx hb dX4_go_96 rfl (lv_at hl 0 rfl) ?_
              refine lv_iload_n hx hb dX4_go_97 rfl (lv_at hl 2 rfl) ?_
              refine lv_iconst (v := 1) hx hb dX4_go_98 (by decide) ?_
              refine lv_iadd hx hb dX4_go_99 ?_
              refine lv_iload hx hb dX4_go_100 (lv_at hl 3 rfl) ?_
              obtain ⟨hI, h⟩ := h
              refine mm_V (As := [.int (x3 + 1), .int x4]) (rest := []) C S hl.1 (hrec_X4_go h) (T := TX4) rfl hI (lw_V q1917 q1919 qs31 q58 q1920) rfl pd_X4_go ⟨by simp only [mRm]; omega, by simp only [mRm]; omega⟩ rfl rfl (Nat.le_of_ble_eq_true rfl) dX4_go_102 rfl rfl hk (Nat.zero_add _) (fun v9 M11 H locs hP S hk => ?_) (fun E q ce M9 H9 locs9 hX => hX.elim)
              obtain ⟨v12, rfl, h⟩ := hP
              refine W.eq (g2 := F0 m 105 ls [.int v12]) rfl ?_
              refine lv_if_ne (tgt := 110) hx hb dX4_go_105 (by decide) (fun c9 => ?_) (fun c9 => ?_)
              · have h := h.1 c9
                exact j110 _ _ _ _ _ _ _ _ _ _ _ _ _ hk S hl h
              · have h := h.2 c9
                exact j108 _ _ _ _ _ _ hk S (lv_sub hl [] rfl) h
            · have h := h.2 c9
              refine lv_aload_n hx hb dX4_go_85 rfl (lv_at hl 0 rfl) ?_
              refine lv_iload_n hx hb dX4_go_86 rfl (lv_at hl 2 rfl) ?_
              obtain ⟨hI, h⟩ := h
              refine mm_V (As := [.int x3]) (rest := []) C S hl.1 (wk_X4_step hst0 h) (T := TX4) rfl hI (lw_V q1925 q1927 qs33 q58 q1928) rfl pd_X4_step ⟨by simp only [mRm]; omega, by simp only [mRm]; omega⟩ rfl rfl (Nat.le_of_ble_eq_true rfl) dX4_go_87 rfl rfl hk (Nat.zero_add _) (fun v9 M13 H locs hP S hk => ?_) (fun E q ce M9 H9 locs9 hX => hX.elim)
              obtain ⟨v14, rfl, h⟩ := hP
              refine W.eq (g2 := F0 m 90 ls [.int v14]) rfl ?_
              refine lv_if_eq (tgt := 108) hx hb dX4_go_90 (by decide) (fun c9 => ?_) (fun c9 => ?_)
              · have h := h.1 c9
                exact j108 _ _ _ _ _ _ hk S (lv_sub hl [] rfl) h
              · have h := h.2 c9
                refine lv_goto (tgt := 110) hx hb dX4_go_93 (by decide) ?_
                exact j110 _ _ _ _ _ _ _ _ _ _ _ _ _ hk S hl h
      have j67 : ∀ (k r : Nat) (M : mM) (H : Heap) (locs : List Loc) (ls : Array Slot) (a0 : Nat) (x2 : Int32) (x3 : Int32) (x4 : Int32) (x5 : Int32) (s0 : Int32), k + r ≤ b → mW G A s M H locs → lv_has ls 8 [(0, .ref a0), (2, .int x2), (3, .int x3), (4, .int x4), (5, .int x5)] → wb_X4_go_67 R_X4_go G P (wl_X4_go_2 R_X4_go G P n2) r M a0 x2 x3 x4 x5 s0 → W p l e (mRm (Lr + 1) b) s m args below meth c H locs k k (vx_MQ below (mQ G A (mRi P)) (mXC G A (fun _ _ _ => False)) args s b b A) (F0 m 67 ls [.int s0]) := by
        intro k r M H locs ls a0 x2 x3 x4 x5 s0 hk S hl h
        unfold wb_X4_go_67 at h
        refine lv_istore (lv' := [(6, .int s0), (0, .ref a0), (2, .int x2), (3, .int x3), (4, .int x4), (5, .int x5)]) hx hb dX4_go_67 hl (by decide) rfl (fun ls hl => ?_)
        refine lv_iconst (v := 0) hx hb dX4_go_69 (by decide) ?_
        refine lv_istore (lv' := [(7, .int 0), (6, .int s0), (0, .ref a0), (2, .int x2), (3, .int x3), (4, .int x4), (5, .int x5)]) hx hb dX4_go_70 hl (by decide) rfl (fun ls hl => ?_)
        obtain ⟨nf, h⟩ := h
        exact j72 nf _ _ _ _ _ _ _ _ _ _ _ _ _ hk S (lv_sub hl [2, 3, 4, 5, 6, 1, 0] rfl) h
      have j27 : ∀ (k r : Nat) (M : mM) (H : Heap) (locs : List Loc) (ls : Array Slot) (a0 : Nat) (x2 : Int32) (x3 : Int32) (s0 : Int32), k + r ≤ b → mW G A s M H locs → lv_has ls 8 [(0, .ref a0), (2, .int x2), (3, .int x3)] → wb_X4_go_27 R_X4_go G P (wl_X4_go_2 R_X4_go G P n2) r M a0 x2 x3 s0 → W p l e (mRm (Lr + 1) b) s m args below meth c H locs k k (vx_MQ below (mQ G A (mRi P)) (mXC G A (fun _ _ _ => False)) args s b b A) (F0 m 27 ls [.int s0]) := by
        intro k r M H locs ls a0 x2 x3 s0 hk S hl h
        unfold wb_X4_go_27 at h
        refine lv_istore (lv' := [(4, .int s0), (0, .ref a0), (2, .int x2), (3, .int x3)]) hx hb dX4_go_27 hl (by decide) rfl (fun ls hl => ?_)
        refine lv_aload_n hx hb dX4_go_29 rfl (lv_at hl 1 rfl) ?_
        refine lv_iload hx hb dX4_go_30 (lv_at hl 0 rfl) ?_
        refine lv_iconst (v := 1) hx hb dX4_go_32 (by decide) ?_
        refine lv_iadd hx hb dX4_go_33 ?_
        obtain ⟨hI, h⟩ := h
        refine mm_V (As := [.int (s0 + 1)]) (rest := []) C S hl.1 (wk_X4_letter hst0 h) (T := TX4) rfl hI (lw_V q1906 q1908 qs29 q58 q1909) rfl pd_X4_letter ⟨by simp only [mRm]; omega, by simp only [mRm]; omega⟩ rfl rfl (Nat.le_of_ble_eq_true rfl) dX4_go_34 rfl rfl hk (Nat.zero_add _) (fun v9 M5 H locs hP S hk => ?_) (fun E q ce M9 H9 locs9 hX => hX.elim)
        obtain ⟨v6, rfl, h⟩ := hP
        refine W.eq (g2 := F0 m 37 ls [.int v6]) rfl ?_
        refine lv_bipush (v := 50) hx hb dX4_go_37 (by decide) ?_
        refine lv_bipush (v := 57) hx hb dX4_go_39 (by decide) ?_
        refine mm_S (As := [.int v6, .int 50, .int 57]) (rest := []) C S hl.1 (wk_X4_isIn hst0 h) (lw_S q1830 q1831 q58 q1832) pd_X4_isIn ⟨by simp only [mRm]; omega, by simp only [mRm]; omega⟩ rfl rfl (Nat.le_of_ble_eq_true rfl) dX4_go_41 rfl rfl hk (Nat.zero_add _) (fun v9 M7 H locs hP S hk => ?_) (fun E q ce M9 H9 locs9 hX => hX.elim)
        obtain ⟨v8, rfl, h⟩ := hP
        refine W.eq (g2 := F0 m 44 ls [.int v8]) rfl ?_
        refine lv_istore (lv' := [(5, .int v8), (4, .int s0), (0, .ref a0), (2, .int x2), (3, .int x3)]) hx hb dX4_go_44 hl (by decide) rfl (fun ls hl => ?_)
        refine lv_iload hx hb dX4_go_46 (lv_at hl 0 rfl) ?_
        refine lv_if_eq (tgt := 66) hx hb dX4_go_48 (by decide) (fun c9 => ?_) (fun c9 => ?_)
        · have h := h.1 c9
          refine lv_iconst (v := 1) hx hb dX4_go_66 (by decide) ?_
          exact j67 _ _ _ _ _ _ _ _ _ _ _ _ hk S (lv_sub hl [2, 3, 4, 1, 0] rfl) h
        · have h := h.2 c9
          refine lv_aload_n hx hb dX4_go_51 rfl (lv_at hl 2 rfl) ?_
          refine mm_gfa C S (ci := 3) (k := 22) rfl in_X4 (by decide) q1692 (fun _ h9 => h9) dX4_go_52 h (fun u9 h => ?_)
          refine lv_iload hx hb dX4_go_55 (lv_at hl 1 rfl) ?_
          refine lv_iconst (v := 1) hx hb dX4_go_57 (by decide) ?_
          refine lv_iadd hx hb dX4_go_58 ?_
          refine mm_iald C S h dX4_go_59 (fun v10 h => ?_)
          refine lv_bipush (v := 48) hx hb dX4_go_60 (by decide) ?_
          refine lv_isub hx hb dX4_go_62 ?_
          refine lv_goto (tgt := 67) hx hb dX4_go_63 (by decide) ?_
          exact j67 _ _ _ _ _ _ _ _ _ _ _ _ hk S (lv_sub hl [2, 3, 4, 1, 0] rfl) h
      intro k r M H locs ls a0 x2 x3 hk S hl h
      rw [wl_X4_go_2] at h
      refine lv_iload_n hx hb dX4_go_2 rfl (lv_at hl 2 rfl) ?_
      refine lv_iload_n hx hb dX4_go_3 rfl (lv_at hl 1 rfl) ?_
      refine lv_icmp_ge (tgt := 136) hx hb dX4_go_4 (by decide) (fun c9 => ?_) (fun c9 => ?_)
      · have h := h.1 c9
        refine lv_iconst (v := 1) hx hb dX4_go_136 (by decide) ?_
        exact mm_zret C S hr (Nat.le_trans (Nat.le_add_right _ _) hk) dX4_go_137 h
      · have h := h.2 c9
        refine lv_aload_n hx hb dX4_go_7 rfl (lv_at hl 0 rfl) ?_
        refine mm_gfa C S (ci := 3) (k := 22) rfl in_X4 (by decide) q1692 (fun _ h9 => h9) dX4_go_8 h (fun u1 h => ?_)
        refine lv_iload_n hx hb dX4_go_11 rfl (lv_at hl 2 rfl) ?_
        refine mm_iald C S h dX4_go_12 (fun v2 h => ?_)
        refine lv_bipush (v := 40) hx hb dX4_go_13 (by decide) ?_
        refine lv_icmp_ne (tgt := 26) hx hb dX4_go_15 (by decide) (fun c9 => ?_) (fun c9 => ?_)
        · have h := h.1 c9
          refine lv_iload_n hx hb dX4_go_26 rfl (lv_at hl 2 rfl) ?_
          exact j27 _ _ _ _ _ _ _ _ _ _ hk S hl h
        · have h := h.2 c9
          refine lv_aload_n hx hb dX4_go_18 rfl (lv_at hl 0 rfl) ?_
          refine lv_iload_n hx hb dX4_go_19 rfl (lv_at hl 2 rfl) ?_
          obtain ⟨hI, h⟩ := h
          refine mm_V (As := [.int x3]) (rest := []) C S hl.1 (wk_X4_closing hst0 h) (T := TX4) rfl hI (lw_V q1921 q1923 qs32 q58 q1924) rfl pd_X4_closing ⟨by simp only [mRm]; omega, by simp only [mRm]; omega⟩ rfl rfl (Nat.le_of_ble_eq_true rfl) dX4_go_20 rfl rfl hk (Nat.zero_add _) (fun v9 M3 H locs hP S hk => ?_) (fun E q ce M9 H9 locs9 hX => hX.elim)
          obtain ⟨v4, rfl, h⟩ := hP
          refine W.eq (g2 := F0 m 23 ls [.int v4]) rfl ?_
          refine lv_goto (tgt := 27) hx hb dX4_go_23 (by decide) ?_
          exact j27 _ _ _ _ _ _ _ _ _ _ hk S hl h
  unfold wp_X4_go at h
  refine lv_iload_n hx hb dX4_go_0 rfl (lv_at hl 1 rfl) ?_
  refine lv_istore_n (lv' := [(3, .int x1), (0, .ref a0), (1, .int x1), (2, .int x2)]) hx hb dX4_go_1 rfl hl (by decide) rfl (fun ls hl => ?_)
  obtain ⟨nf, h⟩ := h
  exact j2 nf _ _ _ _ _ _ _ _ _ hk S (lv_sub hl [1, 3, 0] rfl) h
def wR_X4_go : Nat → (mG → Nat → (Int32 → mM → Prop) → mM → Nat → Int32 → Int32 → Prop)
  | 0 => (fun _ _ _ _ _ _ _ => False)
  | d + 1 => (wp_X4_go (wR_X4_go d))
def wr_X4_go (d : Nat) : mG → Nat → (Int32 → mM → Prop) → mM → Nat → Int32 → Int32 → Prop := (wR_X4_go d)
theorem wK_X4_go {l : Launch} (hst0 : l.stackTraces = false) : ∀ d : Nat, (∀ {G : mG} {b : Nat} {P : Int32 → mM → Prop} {M : mM} {a0 : Nat} {x1 : Int32} {x2 : Int32}, wr_X4_go d G b P M a0 x1 x2 → mMet l yX4_go (ws_ yX4_go cX4_go 8 (Option.some Jvm.ClassFile.FieldType.boolean)) (12 + d) b G [.ref a0, .int x1, .int x2] M (mRi P) (fun _ _ _ => False)) ∧ True
  | 0 => ⟨fun h => h.elim, trivial⟩
  | d + 1 => by
    have ih := wK_X4_go hst0 d
    exact ⟨fun h => wks_X4_go hst0 (Lr := 12 + d) (by omega) (fun h => (ih.1) h) h, trivial⟩
theorem wk_X4_go {l : Launch} (hst0 : l.stackTraces = false) {G : mG} {b : Nat} {P : Int32 → mM → Prop} {M : mM} {a0 : Nat} {x1 : Int32} {x2 : Int32} (h : wr_X4_go 7 G b P M a0 x1 x2) : mMet l yX4_go (ws_ yX4_go cX4_go 8 (Option.some Jvm.ClassFile.FieldType.boolean)) 19 b G [.ref a0, .int x1, .int x2] M (mRi P) (fun _ _ _ => False) := (wK_X4_go hst0 7).1 h
/-! X4_grow: level 11 -/
def wb_X4_grow_150 (G : mG) (P : mM → Prop) (r : Nat) (M : mM) : Prop :=
  P M
def wb_X4_grow_127 (G : mG) (P : mM → Prop) (r : Nat) (M : mM) (a0 : Nat) (x1 : Int32) (x3 : Int32) : Prop :=
  (¬ x3 = 1 → wb_X4_grow_150 G P r M) ∧ (x3 = 1 → gfa M a0 3 7 fun u19 => ldi M 0 u19 x1 fun v20 => (v20 < 20 → wb_X4_grow_150 G P r M) ∧ (¬ v20 < 20 → gfa M a0 3 4 fun u21 => sti M 0 u21 x1 2 fun M22 => wb_X4_grow_150 G P r M22))
def wb_X4_grow_104 (G : mG) (P : mM → Prop) (r : Nat) (M : mM) (a0 : Nat) (x1 : Int32) (x3 : Int32) : Prop :=
  (¬ x3 = 3 → wb_X4_grow_127 G P r M a0 x1 x3) ∧ (x3 = 3 → gfa M a0 3 7 fun u15 => ldi M 0 u15 x1 fun v16 => (v16 < 10 → wb_X4_grow_127 G P r M a0 x1 x3) ∧ (¬ v16 < 10 → gfa M a0 3 4 fun u17 => sti M 0 u17 x1 0 fun M18 => wb_X4_grow_127 G P r M18 a0 x1 x3))
def wb_X4_grow_73 (G : mG) (P : mM → Prop) (r : Nat) (M : mM) (a0 : Nat) (x1 : Int32) (x3 : Int32) (s0 : Nat) (s1 : Int32) (s2 : Int32) : Prop :=
  sti M 0 s0 s1 s2 fun M8 => gfa M8 a0 3 6 fun u9 => sti M8 0 u9 x1 x3 fun M10 => (¬ x3 = 2 → wb_X4_grow_104 G P r M10 a0 x1 x3) ∧ (x3 = 2 → gfa M10 a0 3 7 fun u11 => ldi M10 0 u11 x1 fun v12 => (v12 < 10 → wb_X4_grow_104 G P r M10 a0 x1 x3) ∧ (¬ v12 < 10 → gfa M10 a0 3 4 fun u13 => sti M10 0 u13 x1 1 fun M14 => wb_X4_grow_104 G P r M14 a0 x1 x3))
def wb_X4_grow_64 (G : mG) (P : mM → Prop) (r : Nat) (M : mM) (a0 : Nat) (x1 : Int32) (x3 : Int32) (s0 : Nat) (s1 : Int32) : Prop :=
  (¬ x3 = 0 → wb_X4_grow_73 G P r M a0 x1 x3 s0 s1 1) ∧ (x3 = 0 → wb_X4_grow_73 G P r M a0 x1 x3 s0 s1 0)
def wb_X4_grow_33 (G : mG) (P : mM → Prop) (r : Nat) (M : mM) (a0 : Nat) (x1 : Int32) (s0 : Int32) : Prop :=
  gfa M a0 3 7 fun u3 => (s0 = 0 → wb_X4_grow_64 G P r M a0 x1 s0 u3 x1) ∧ (¬ s0 = 0 → gfa M a0 3 6 fun u4 => ldi M 0 u4 x1 fun v5 => (¬ s0 = v5 → wb_X4_grow_64 G P r M a0 x1 s0 u3 x1) ∧ (s0 = v5 → gfa M a0 3 7 fun u6 => ldi M 0 u6 x1 fun v7 => wb_X4_grow_73 G P r M a0 x1 s0 u3 x1 (v7 + 1)))
def wp_X4_grow (G : mG) (b : Nat) (P : mM → Prop) (M : mM) (a0 : Nat) (x1 : Int32) : Prop :=
  isc M a0 3 ∧ (wp_X4_depth G 0 (fun v2 M1 => (0 ≤ v2 → (2 ≤ v2 → (v2 ≤ 2 → wb_X4_grow_33 G P b M1 a0 x1 0) ∧ (¬ v2 ≤ 2 → wb_X4_grow_33 G P b M1 a0 x1 3)) ∧ (¬ 2 ≤ v2 → wb_X4_grow_33 G P b M1 a0 x1 2)) ∧ (¬ 0 ≤ v2 → wb_X4_grow_33 G P b M1 a0 x1 1)) M a0 x1)
set_option maxHeartbeats 4000000 in
set_option maxRecDepth 100000 in
theorem wk_X4_grow {l : Launch} (hst0 : l.stackTraces = false) {G : mG} {b : Nat} {P : mM → Prop} {M : mM} {a0 : Nat} {x1 : Int32} (h : wp_X4_grow G b P M a0 x1) : mMet l yX4_grow (ws_ yX4_grow cX4_grow 4 (Option.none : Option Jvm.ClassFile.FieldType)) 11 b G [.ref a0, .int x1] M (mRv P) (fun _ _ _ => False) := by
  refine mm_met hst0 (by decide) (Nat.le_of_ble_eq_true rfl) ?_
  intro p e s m args below meth c ls C hr hnt hnm hl S
  have hl : lv_has ls 4 [(0, .ref a0), (1, .int x1)] := hl
  generalize mA M s.heap.size = A at C S ⊢
  have hx := C.hx
  have hb := C.hb
  have hk : 0 + b ≤ b := Nat.le_of_eq (Nat.zero_add b)
  have j150 : ∀ (k r : Nat) (M : mM) (H : Heap) (locs : List Loc) (ls : Array Slot), k + r ≤ b → mW G A s M H locs → lv_has ls 4 [] → wb_X4_grow_150 G P r M → W p l e (mRm 11 b) s m args below meth c H locs k k (vx_MQ below (mQ G A (mRv P)) (mXC G A (fun _ _ _ => False)) args s b b A) (F0 m 150 ls []) := by
    intro k r M H locs ls  hk S hl h
    unfold wb_X4_grow_150 at h
    exact mm_vret C S hr (Nat.le_trans (Nat.le_add_right _ _) hk) dX4_grow_150 h
  have j127 : ∀ (k r : Nat) (M : mM) (H : Heap) (locs : List Loc) (ls : Array Slot) (a0 : Nat) (x1 : Int32) (x3 : Int32), k + r ≤ b → mW G A s M H locs → lv_has ls 4 [(0, .ref a0), (1, .int x1), (3, .int x3)] → wb_X4_grow_127 G P r M a0 x1 x3 → W p l e (mRm 11 b) s m args below meth c H locs k k (vx_MQ below (mQ G A (mRv P)) (mXC G A (fun _ _ _ => False)) args s b b A) (F0 m 127 ls []) := by
    intro k r M H locs ls a0 x1 x3 hk S hl h
    unfold wb_X4_grow_127 at h
    refine lv_iload_n hx hb dX4_grow_127 rfl (lv_at hl 2 rfl) ?_
    refine lv_iconst (v := 1) hx hb dX4_grow_128 (by decide) ?_
    refine lv_icmp_ne (tgt := 150) hx hb dX4_grow_129 (by decide) (fun c9 => ?_) (fun c9 => ?_)
    · have h := h.1 c9
      exact j150 _ _ _ _ _ _ hk S (lv_sub hl [] rfl) h
    · have h := h.2 c9
      refine lv_aload_n hx hb dX4_grow_132 rfl (lv_at hl 0 rfl) ?_
      refine mm_gfa C S (ci := 3) (k := 7) rfl in_X4 (by decide) q1677 (fun _ h9 => h9) dX4_grow_133 h (fun u19 h => ?_)
      refine lv_iload_n hx hb dX4_grow_136 rfl (lv_at hl 1 rfl) ?_
      refine mm_iald C S h dX4_grow_137 (fun v20 h => ?_)
      refine lv_bipush (v := 20) hx hb dX4_grow_138 (by decide) ?_
      refine lv_icmp_lt (tgt := 150) hx hb dX4_grow_140 (by decide) (fun c9 => ?_) (fun c9 => ?_)
      · have h := h.1 c9
        exact j150 _ _ _ _ _ _ hk S (lv_sub hl [] rfl) h
      · have h := h.2 c9
        refine lv_aload_n hx hb dX4_grow_143 rfl (lv_at hl 0 rfl) ?_
        refine mm_gfa C S (ci := 3) (k := 4) rfl in_X4 (by decide) q1674 (fun _ h9 => h9) dX4_grow_144 h (fun u21 h => ?_)
        refine lv_iload_n hx hb dX4_grow_147 rfl (lv_at hl 1 rfl) ?_
        refine lv_iconst (v := 2) hx hb dX4_grow_148 (by decide) ?_
        refine mm_iast C S h dX4_grow_149 (fun M22 H locs h S => ?_)
        exact j150 _ _ _ _ _ _ hk S (lv_sub hl [] rfl) h
  have j104 : ∀ (k r : Nat) (M : mM) (H : Heap) (locs : List Loc) (ls : Array Slot) (a0 : Nat) (x1 : Int32) (x3 : Int32), k + r ≤ b → mW G A s M H locs → lv_has ls 4 [(0, .ref a0), (1, .int x1), (3, .int x3)] → wb_X4_grow_104 G P r M a0 x1 x3 → W p l e (mRm 11 b) s m args below meth c H locs k k (vx_MQ below (mQ G A (mRv P)) (mXC G A (fun _ _ _ => False)) args s b b A) (F0 m 104 ls []) := by
    intro k r M H locs ls a0 x1 x3 hk S hl h
    unfold wb_X4_grow_104 at h
    refine lv_iload_n hx hb dX4_grow_104 rfl (lv_at hl 2 rfl) ?_
    refine lv_iconst (v := 3) hx hb dX4_grow_105 (by decide) ?_
    refine lv_icmp_ne (tgt := 127) hx hb dX4_grow_106 (by decide) (fun c9 => ?_) (fun c9 => ?_)
    · have h := h.1 c9
      exact j127 _ _ _ _ _ _ _ _ _ hk S hl h
    · have h := h.2 c9
      refine lv_aload_n hx hb dX4_grow_109 rfl (lv_at hl 0 rfl) ?_
      refine mm_gfa C S (ci := 3) (k := 7) rfl in_X4 (by decide) q1677 (fun _ h9 => h9) dX4_grow_110 h (fun u15 h => ?_)
      refine lv_iload_n hx hb dX4_grow_113 rfl (lv_at hl 1 rfl) ?_
      refine mm_iald C S h dX4_grow_114 (fun v16 h => ?_)
      refine lv_bipush (v := 10) hx hb dX4_grow_115 (by decide) ?_
      refine lv_icmp_lt (tgt := 127) hx hb dX4_grow_117 (by decide) (fun c9 => ?_) (fun c9 => ?_)
      · have h := h.1 c9
        exact j127 _ _ _ _ _ _ _ _ _ hk S hl h
      · have h := h.2 c9
        refine lv_aload_n hx hb dX4_grow_120 rfl (lv_at hl 0 rfl) ?_
        refine mm_gfa C S (ci := 3) (k := 4) rfl in_X4 (by decide) q1674 (fun _ h9 => h9) dX4_grow_121 h (fun u17 h => ?_)
        refine lv_iload_n hx hb dX4_grow_124 rfl (lv_at hl 1 rfl) ?_
        refine lv_iconst (v := 0) hx hb dX4_grow_125 (by decide) ?_
        refine mm_iast C S h dX4_grow_126 (fun M18 H locs h S => ?_)
        exact j127 _ _ _ _ _ _ _ _ _ hk S hl h
  have j73 : ∀ (k r : Nat) (M : mM) (H : Heap) (locs : List Loc) (ls : Array Slot) (a0 : Nat) (x1 : Int32) (x3 : Int32) (s0 : Nat) (s1 : Int32) (s2 : Int32), k + r ≤ b → mW G A s M H locs → lv_has ls 4 [(0, .ref a0), (1, .int x1), (3, .int x3)] → wb_X4_grow_73 G P r M a0 x1 x3 s0 s1 s2 → W p l e (mRm 11 b) s m args below meth c H locs k k (vx_MQ below (mQ G A (mRv P)) (mXC G A (fun _ _ _ => False)) args s b b A) (F0 m 73 ls [.int s2, .int s1, .ref s0]) := by
    intro k r M H locs ls a0 x1 x3 s0 s1 s2 hk S hl h
    unfold wb_X4_grow_73 at h
    refine mm_iast C S h dX4_grow_73 (fun M8 H locs h S => ?_)
    refine lv_aload_n hx hb dX4_grow_74 rfl (lv_at hl 0 rfl) ?_
    refine mm_gfa C S (ci := 3) (k := 6) rfl in_X4 (by decide) q1676 (fun _ h9 => h9) dX4_grow_75 h (fun u9 h => ?_)
    refine lv_iload_n hx hb dX4_grow_78 rfl (lv_at hl 1 rfl) ?_
    refine lv_iload_n hx hb dX4_grow_79 rfl (lv_at hl 2 rfl) ?_
    refine mm_iast C S h dX4_grow_80 (fun M10 H locs h S => ?_)
    refine lv_iload_n hx hb dX4_grow_81 rfl (lv_at hl 2 rfl) ?_
    refine lv_iconst (v := 2) hx hb dX4_grow_82 (by decide) ?_
    refine lv_icmp_ne (tgt := 104) hx hb dX4_grow_83 (by decide) (fun c9 => ?_) (fun c9 => ?_)
    · have h := h.1 c9
      exact j104 _ _ _ _ _ _ _ _ _ hk S hl h
    · have h := h.2 c9
      refine lv_aload_n hx hb dX4_grow_86 rfl (lv_at hl 0 rfl) ?_
      refine mm_gfa C S (ci := 3) (k := 7) rfl in_X4 (by decide) q1677 (fun _ h9 => h9) dX4_grow_87 h (fun u11 h => ?_)
      refine lv_iload_n hx hb dX4_grow_90 rfl (lv_at hl 1 rfl) ?_
      refine mm_iald C S h dX4_grow_91 (fun v12 h => ?_)
      refine lv_bipush (v := 10) hx hb dX4_grow_92 (by decide) ?_
      refine lv_icmp_lt (tgt := 104) hx hb dX4_grow_94 (by decide) (fun c9 => ?_) (fun c9 => ?_)
      · have h := h.1 c9
        exact j104 _ _ _ _ _ _ _ _ _ hk S hl h
      · have h := h.2 c9
        refine lv_aload_n hx hb dX4_grow_97 rfl (lv_at hl 0 rfl) ?_
        refine mm_gfa C S (ci := 3) (k := 4) rfl in_X4 (by decide) q1674 (fun _ h9 => h9) dX4_grow_98 h (fun u13 h => ?_)
        refine lv_iload_n hx hb dX4_grow_101 rfl (lv_at hl 1 rfl) ?_
        refine lv_iconst (v := 1) hx hb dX4_grow_102 (by decide) ?_
        refine mm_iast C S h dX4_grow_103 (fun M14 H locs h S => ?_)
        exact j104 _ _ _ _ _ _ _ _ _ hk S hl h
  have j64 : ∀ (k r : Nat) (M : mM) (H : Heap) (locs : List Loc) (ls : Array Slot) (a0 : Nat) (x1 : Int32) (x3 : Int32) (s0 : Nat) (s1 : Int32), k + r ≤ b → mW G A s M H locs → lv_has ls 4 [(0, .ref a0), (1, .int x1), (3, .int x3)] → wb_X4_grow_64 G P r M a0 x1 x3 s0 s1 → W p l e (mRm 11 b) s m args below meth c H locs k k (vx_MQ below (mQ G A (mRv P)) (mXC G A (fun _ _ _ => False)) args s b b A) (F0 m 64 ls [.int s1, .ref s0]) := by
    intro k r M H locs ls a0 x1 x3 s0 s1 hk S hl h
    unfold wb_X4_grow_64 at h
    refine lv_iload_n hx hb dX4_grow_64 rfl (lv_at hl 2 rfl) ?_
    refine lv_if_ne (tgt := 72) hx hb dX4_grow_65 (by decide) (fun c9 => ?_) (fun c9 => ?_)
    · have h := h.1 c9
      refine lv_iconst (v := 1) hx hb dX4_grow_72 (by decide) ?_
      exact j73 _ _ _ _ _ _ _ _ _ _ _ _ hk S hl h
    · have h := h.2 c9
      refine lv_iconst (v := 0) hx hb dX4_grow_68 (by decide) ?_
      refine lv_goto (tgt := 73) hx hb dX4_grow_69 (by decide) ?_
      exact j73 _ _ _ _ _ _ _ _ _ _ _ _ hk S hl h
  have j33 : ∀ (k r : Nat) (M : mM) (H : Heap) (locs : List Loc) (ls : Array Slot) (a0 : Nat) (x1 : Int32) (s0 : Int32), k + r ≤ b → mW G A s M H locs → lv_has ls 4 [(0, .ref a0), (1, .int x1)] → wb_X4_grow_33 G P r M a0 x1 s0 → W p l e (mRm 11 b) s m args below meth c H locs k k (vx_MQ below (mQ G A (mRv P)) (mXC G A (fun _ _ _ => False)) args s b b A) (F0 m 33 ls [.int s0]) := by
    intro k r M H locs ls a0 x1 s0 hk S hl h
    unfold wb_X4_grow_33 at h
    refine lv_istore_n (lv' := [(3, .int s0), (0, .ref a0), (1, .int x1)]) hx hb dX4_grow_33 rfl hl (by decide) rfl (fun ls hl => ?_)
    refine lv_aload_n hx hb dX4_grow_34 rfl (lv_at hl 1 rfl) ?_
    refine mm_gfa C S (ci := 3) (k := 7) rfl in_X4 (by decide) q1677 (fun _ h9 => h9) dX4_grow_35 h (fun u3 h => ?_)
    refine lv_iload_n hx hb dX4_grow_38 rfl (lv_at hl 2 rfl) ?_
    refine lv_iload_n hx hb dX4_grow_39 rfl (lv_at hl 0 rfl) ?_
    refine lv_if_eq (tgt := 64) hx hb dX4_grow_40 (by decide) (fun c9 => ?_) (fun c9 => ?_)
    · have h := h.1 c9
      exact j64 _ _ _ _ _ _ _ _ _ _ _ hk S (lv_sub hl [1, 2, 0] rfl) h
    · have h := h.2 c9
      refine lv_iload_n hx hb dX4_grow_43 rfl (lv_at hl 0 rfl) ?_
      refine lv_aload_n hx hb dX4_grow_44 rfl (lv_at hl 1 rfl) ?_
      refine mm_gfa C S (ci := 3) (k := 6) rfl in_X4 (by decide) q1676 (fun _ h9 => h9) dX4_grow_45 h (fun u4 h => ?_)
      refine lv_iload_n hx hb dX4_grow_48 rfl (lv_at hl 2 rfl) ?_
      refine mm_iald C S h dX4_grow_49 (fun v5 h => ?_)
      refine lv_icmp_ne (tgt := 64) hx hb dX4_grow_50 (by decide) (fun c9 => ?_) (fun c9 => ?_)
      · have h := h.1 c9
        exact j64 _ _ _ _ _ _ _ _ _ _ _ hk S (lv_sub hl [1, 2, 0] rfl) h
      · have h := h.2 c9
        refine lv_aload_n hx hb dX4_grow_53 rfl (lv_at hl 1 rfl) ?_
        refine mm_gfa C S (ci := 3) (k := 7) rfl in_X4 (by decide) q1677 (fun _ h9 => h9) dX4_grow_54 h (fun u6 h => ?_)
        refine lv_iload_n hx hb dX4_grow_57 rfl (lv_at hl 2 rfl) ?_
        refine mm_iald C S h dX4_grow_58 (fun v7 h => ?_)
        refine lv_iconst (v := 1) hx hb dX4_grow_59 (by decide) ?_
        refine lv_iadd hx hb dX4_grow_60 ?_
        refine lv_goto (tgt := 73) hx hb dX4_grow_61 (by decide) ?_
        exact j73 _ _ _ _ _ _ _ _ _ _ _ _ hk S (lv_sub hl [1, 2, 0] rfl) h
  unfold wp_X4_grow at h
  refine lv_aload_n hx hb dX4_grow_0 rfl (lv_at hl 0 rfl) ?_
  refine lv_iload_n hx hb dX4_grow_1 rfl (lv_at hl 1 rfl) ?_
  obtain ⟨hI, h⟩ := h
  refine mm_V (As := [.int x1]) (rest := []) C S hl.1 (wk_X4_depth hst0 h) (T := TX4) rfl hI (lw_V q1848 q1850 qs24 q58 q1851) rfl pd_X4_depth ⟨Nat.le_of_ble_eq_true rfl, Nat.le_of_ble_eq_true rfl⟩ rfl rfl (Nat.le_of_ble_eq_true rfl) dX4_grow_2 rfl rfl hk (Nat.zero_add _) (fun v9 M1 H locs hP S hk => ?_) (fun E q ce M9 H9 locs9 hX => hX.elim)
  obtain ⟨v2, rfl, h⟩ := hP
  refine W.eq (g2 := F0 m 5 ls [.int v2]) rfl ?_
  refine lv_istore_n (lv' := [(2, .int v2), (0, .ref a0), (1, .int x1)]) hx hb dX4_grow_5 rfl hl (by decide) rfl (fun ls hl => ?_)
  refine lv_iload_n hx hb dX4_grow_6 rfl (lv_at hl 0 rfl) ?_
  refine lv_if_ge (tgt := 14) hx hb dX4_grow_7 (by decide) (fun c9 => ?_) (fun c9 => ?_)
  · have h := h.1 c9
    refine lv_iload_n hx hb dX4_grow_14 rfl (lv_at hl 0 rfl) ?_
    refine lv_iconst (v := 2) hx hb dX4_grow_15 (by decide) ?_
    refine lv_icmp_ge (tgt := 23) hx hb dX4_grow_16 (by decide) (fun c9 => ?_) (fun c9 => ?_)
    · have h := h.1 c9
      refine lv_iload_n hx hb dX4_grow_23 rfl (lv_at hl 0 rfl) ?_
      refine lv_iconst (v := 2) hx hb dX4_grow_24 (by decide) ?_
      refine lv_icmp_le (tgt := 32) hx hb dX4_grow_25 (by decide) (fun c9 => ?_) (fun c9 => ?_)
      · have h := h.1 c9
        refine lv_iconst (v := 0) hx hb dX4_grow_32 (by decide) ?_
        exact j33 _ _ _ _ _ _ _ _ _ hk S (lv_sub hl [1, 2] rfl) h
      · have h := h.2 c9
        refine lv_iconst (v := 3) hx hb dX4_grow_28 (by decide) ?_
        refine lv_goto (tgt := 33) hx hb dX4_grow_29 (by decide) ?_
        exact j33 _ _ _ _ _ _ _ _ _ hk S (lv_sub hl [1, 2] rfl) h
    · have h := h.2 c9
      refine lv_iconst (v := 2) hx hb dX4_grow_19 (by decide) ?_
      refine lv_goto (tgt := 33) hx hb dX4_grow_20 (by decide) ?_
      exact j33 _ _ _ _ _ _ _ _ _ hk S (lv_sub hl [1, 2] rfl) h
  · have h := h.2 c9
    refine lv_iconst (v := 1) hx hb dX4_grow_10 (by decide) ?_
    refine lv_goto (tgt := 33) hx hb dX4_grow_11 (by decide) ?_
    exact j33 _ _ _ _ _ _ _ _ _ hk S (lv_sub hl [1, 2] rfl) h
/-! X4_init: level 10, alloc -/
def wl_X4_init_375 (G : mG) (P : mM → Prop) (K359 : Nat → mM → Nat → Int32 → Prop) (K367 : Nat → mM → Nat → Int32 → Int32 → Prop) : Nat → Nat → mM → Nat → Int32 → Int32 → Int32 → Prop
  | 0, _, _, _, _, _, _ => False
  | n + 1, r, M, a0, x1, x2, x3 => (4 ≤ x3 → K367 r M a0 x1 (x2 + 1)) ∧ (¬ 4 ≤ x3 → gfa M a0 3 45 fun u144 => lda M 9 u144 x1 fun u145 => lda M 8 u145 x2 fun u146 => sti M 0 u146 x3 (-1) fun M147 => (wl_X4_init_375 G P K359 K367 n) r M147 a0 x1 x2 (x3 + 1))
def wl_X4_init_367 (G : mG) (P : mM → Prop) (K359 : Nat → mM → Nat → Int32 → Prop) : Nat → Nat → mM → Nat → Int32 → Int32 → Prop
  | 0, _, _, _, _, _ => False
  | n + 1, r, M, a0, x1, x2 => (36 ≤ x2 → K359 r M a0 (x1 + 1)) ∧ (¬ 36 ≤ x2 → ∃ n375, wl_X4_init_375 G P K359 (wl_X4_init_367 G P K359 n) n375 r M a0 x1 x2 0)
def wl_X4_init_359 (G : mG) (P : mM → Prop) : Nat → Nat → mM → Nat → Int32 → Prop
  | 0, _, _, _, _ => False
  | n + 1, r, M, a0, x1 => (10 ≤ x1 → P M) ∧ (¬ 10 ≤ x1 → ∃ n367, wl_X4_init_367 G P (wl_X4_init_359 G P n) n367 r M a0 x1 0)
def wl_X4_init_332 (G : mG) (P : mM → Prop) : Nat → Nat → mM → Nat → Int32 → Prop
  | 0, _, _, _, _ => False
  | n + 1, r, M, a0, x1 => (4 ≤ x1 → ∃ n359, wl_X4_init_359 G P n359 r M a0 0) ∧ (¬ 4 ≤ x1 → gfa M a0 3 11 fun u140 => sti M 0 u140 x1 2 fun M141 => gfa M141 a0 3 12 fun u142 => sti M141 0 u142 x1 1 fun M143 => (wl_X4_init_332 G P n) r M143 a0 (x1 + 1))
def wl_X4_init_311 (G : mG) (P : mM → Prop) : Nat → Nat → mM → Nat → Int32 → Prop
  | 0, _, _, _, _ => False
  | n + 1, r, M, a0, x1 => (36 ≤ x1 → ∃ n332, wl_X4_init_332 G P n332 r M a0 0) ∧ (¬ 36 ≤ x1 → gfa M a0 3 5 fun u138 => sti M 0 u138 x1 (-1) fun M139 => (wl_X4_init_311 G P n) r M139 a0 (x1 + 1))
def wp_X4_init (G : mG) (b : Nat) (P : mM → Prop) (M : mM) (a0 : Nat) : Prop :=
  nwa M b 0 36 (.inl fun _ => 0) fun u1 M2 r3 => pfq M2 a0 3 3 (some u1) fun M4 => nwa M4 r3 0 36 (.inl fun _ => 0) fun u5 M6 r7 => pfq M6 a0 3 4 (some u5) fun M8 => nwa M8 r7 0 36 (.inl fun _ => 0) fun u9 M10 r11 => pfq M10 a0 3 5 (some u9) fun M12 => nwa M12 r11 0 36 (.inl fun _ => 0) fun u13 M14 r15 => pfq M14 a0 3 6 (some u13) fun M16 => nwa M16 r15 0 36 (.inl fun _ => 0) fun u17 M18 r19 => pfq M18 a0 3 7 (some u17) fun M20 => nwa M20 r19 0 4 (.inl fun _ => 0) fun u21 M22 r23 => pfq M22 a0 3 8 (some u21) fun M24 => nwa M24 r23 0 4 (.inl fun _ => 0) fun u25 M26 r27 => pfq M26 a0 3 9 (some u25) fun M28 => nwa M28 r27 0 4 (.inl fun _ => 0) fun u29 M30 r31 => pfq M30 a0 3 10 (some u29) fun M32 => nwa M32 r31 0 4 (.inl fun _ => 0) fun u33 M34 r35 => pfq M34 a0 3 11 (some u33) fun M36 => nwa M36 r35 0 4 (.inl fun _ => 0) fun u37 M38 r39 => pfq M38 a0 3 12 (some u37) fun M40 => nwa M40 r39 0 8 (.inl fun _ => 0) fun u41 M42 r43 => pfq M42 a0 3 14 (some u41) fun M44 => nwa M44 r43 0 8 (.inl fun _ => 0) fun u45 M46 r47 => pfq M46 a0 3 15 (some u45) fun M48 => nwa M48 r47 0 8 (.inl fun _ => 0) fun u49 M50 r51 => pfq M50 a0 3 16 (some u49) fun M52 => nwa M52 r51 1 8 (.inl fun _ => 0) fun u53 M54 r55 => pfq M54 a0 3 17 (some u53) fun M56 => pfi M56 a0 3 21 (-1) fun M57 => nwa M57 r55 0 60 (.inl fun _ => 0) fun u58 M59 r60 => pfq M59 a0 3 22 (some u58) fun M61 => nwa M61 r60 0 8 (.inl fun _ => 0) fun u62 M63 r64 => pfq M63 a0 3 23 (some u62) fun M65 => nwm2 M65 r64 8 0 8 31 fun u66 M67 r68 => pfq M67 a0 3 26 (some u66) fun M69 => nwa M69 r68 0 40 (.inl fun _ => 0) fun u70 M71 r72 => pfq M71 a0 3 30 (some u70) fun M73 => nwa M73 r72 0 40 (.inl fun _ => 0) fun u74 M75 r76 => pfq M75 a0 3 31 (some u74) fun M77 => nwa M77 r76 0 40 (.inl fun _ => 0) fun u78 M79 r80 => pfq M79 a0 3 32 (some u78) fun M81 => nwa M81 r80 0 40 (.inl fun _ => 0) fun u82 M83 r84 => pfq M83 a0 3 33 (some u82) fun M85 => nwa M85 r84 0 40 (.inl fun _ => 0) fun u86 M87 r88 => pfq M87 a0 3 34 (some u86) fun M89 => nwa M89 r88 0 40 (.inl fun _ => 0) fun u90 M91 r92 => pfq M91 a0 3 35 (some u90) fun M93 => nwa M93 r92 0 200 (.inl fun _ => 0) fun u94 M95 r96 => pfq M95 a0 3 36 (some u94) fun M97 => nwa M97 r96 0 200 (.inl fun _ => 0) fun u98 M99 r100 => pfq M99 a0 3 37 (some u98) fun M101 => nwa M101 r100 0 200 (.inl fun _ => 0) fun u102 M103 r104 => pfq M103 a0 3 38 (some u102) fun M105 => nwa M105 r104 0 200 (.inl fun _ => 0) fun u106 M107 r108 => pfq M107 a0 3 39 (some u106) fun M109 => nwa M109 r108 0 200 (.inl fun _ => 0) fun u110 M111 r112 => pfq M111 a0 3 40 (some u110) fun M113 => nwm3 M113 r112 9 8 0 40 36 4 fun u114 M115 r116 => pfq M115 a0 3 41 (some u114) fun M117 => nwm2 M117 r116 10 1 40 36 fun u118 M119 r120 => pfq M119 a0 3 42 (some u118) fun M121 => nwm2 M121 r120 8 0 3 4 fun u122 M123 r124 => pfq M123 a0 3 43 (some u122) fun M125 => nwm3 M125 r124 9 8 0 4 3 4 fun u126 M127 r128 => pfq M127 a0 3 44 (some u126) fun M129 => nwm3 M129 r128 9 8 0 10 36 4 fun u130 M131 r132 => pfq M131 a0 3 45 (some u130) fun M133 => nwm3 M133 r132 9 8 0 10 36 4 fun u134 M135 r136 => pfq M135 a0 3 46 (some u134) fun M137 => ∃ n311, wl_X4_init_311 G P n311 r136 M137 a0 0
set_option maxHeartbeats 4000000 in
set_option maxRecDepth 100000 in
theorem wk_X4_init {l : Launch} (hst0 : l.stackTraces = false) {G : mG} {b : Nat} {P : mM → Prop} {M : mM} {a0 : Nat} (h : wp_X4_init G b P M a0) : mMet l yX4_init (ws_ yX4_init cX4_init 4 (Option.none : Option Jvm.ClassFile.FieldType)) 10 b G [.ref a0] M (mRv P) (fun _ _ _ => False) := by
  refine mm_met hst0 (by decide) (Nat.le_of_ble_eq_true rfl) ?_
  intro p e s m args below meth c ls C hr hnt hnm hl S
  have hl : lv_has ls 4 [(0, .ref a0)] := hl
  generalize mA M s.heap.size = A at C S ⊢
  have hx := C.hx
  have hb := C.hb
  have hk : 0 + b ≤ b := Nat.le_of_eq (Nat.zero_add b)
  have j359 : ∀ (nf : Nat) (k r : Nat) (M : mM) (H : Heap) (locs : List Loc) (ls : Array Slot) (a0 : Nat) (x1 : Int32), k + r ≤ b → mW G A s M H locs → lv_has ls 4 [(0, .ref a0), (1, .int x1)] → wl_X4_init_359 G P nf r M a0 x1 → W p l e (mRm 10 b) s m args below meth c H locs k k (vx_MQ below (mQ G A (mRv P)) (mXC G A (fun _ _ _ => False)) args s b b A) (F0 m 359 ls []) := by
    intro nf
    induction nf with
    | zero =>
      intro k r M H locs ls a0 x1 hk S hl h
      rw [wl_X4_init_359] at h
      exact h.elim
    | succ n359 ih359 =>
      have j367 : ∀ (nf : Nat) (k r : Nat) (M : mM) (H : Heap) (locs : List Loc) (ls : Array Slot) (a0 : Nat) (x1 : Int32) (x2 : Int32), k + r ≤ b → mW G A s M H locs → lv_has ls 4 [(0, .ref a0), (1, .int x1), (2, .int x2)] → wl_X4_init_367 G P (wl_X4_init_359 G P n359) nf r M a0 x1 x2 → W p l e (mRm 10 b) s m args below meth c H locs k k (vx_MQ below (mQ G A (mRv P)) (mXC G A (fun _ _ _ => False)) args s b b A) (F0 m 367 ls []) := by
        intro nf
        induction nf with
        | zero =>
          intro k r M H locs ls a0 x1 x2 hk S hl h
          rw [wl_X4_init_367] at h
          exact h.elim
        | succ n367 ih367 =>
          have j375 : ∀ (nf : Nat) (k r : Nat) (M : mM) (H : Heap) (locs : List Loc) (ls : Array Slot) (a0 : Nat) (x1 : Int32) (x2 : Int32) (x3 : Int32), k + r ≤ b → mW G A s M H locs → lv_has ls 4 [(0, .ref a0), (1, .int x1), (2, .int x2), (3, .int x3)] → wl_X4_init_375 G P (wl_X4_init_359 G P n359) (wl_X4_init_367 G P (wl_X4_init_359 G P n359) n367) nf r M a0 x1 x2 x3 → W p l e (mRm 10 b) s m args below meth c H locs k k (vx_MQ below (mQ G A (mRv P)) (mXC G A (fun _ _ _ => False)) args s b b A) (F0 m 375 ls []) := by
            intro nf
            induction nf with
            | zero =>
              intro k r M H locs ls a0 x1 x2 x3 hk S hl h
              rw [wl_X4_init_375] at h
              exact h.elim
            | succ n375 ih375 =>
              intro k r M H locs ls a0 x1 x2 x3 hk S hl h
              rw [wl_X4_init_375] at h
              refine lv_iload_n hx hb dX4_init_375 rfl (lv_at hl 3 rfl) ?_
              refine lv_iconst (v := 4) hx hb dX4_init_376 (by decide) ?_
              refine lv_icmp_ge (tgt := 397) hx hb dX4_init_377 (by decide) (fun c9 => ?_) (fun c9 => ?_)
              · have h := h.1 c9
                refine lv_iinc (v := (x2 + 1)) (lv' := [(2, .int (x2 + 1)), (0, .ref a0), (1, .int x1), (3, .int x3)]) hx hb dX4_init_397 hl (k := 2) rfl rfl (by decide) rfl (fun ls hl => ?_)
                refine lv_goto (tgt := 367) hx hb dX4_init_400 (by decide) ?_
                exact ih367 _ _ _ _ _ _ _ _ _ hk S (lv_sub hl [1, 2, 0] rfl) h
              · have h := h.2 c9
                refine lv_aload_n hx hb dX4_init_380 rfl (lv_at hl 0 rfl) ?_
                refine mm_gfa C S (ci := 3) (k := 45) rfl in_X4 (by decide) q1715 (fun _ h9 => h9) dX4_init_381 h (fun u144 h => ?_)
                refine lv_iload_n hx hb dX4_init_384 rfl (lv_at hl 1 rfl) ?_
                refine mm_aald C S (t := 9) rfl rfl h dX4_init_385 (fun u145 h => ?_)
                refine lv_iload_n hx hb dX4_init_386 rfl (lv_at hl 2 rfl) ?_
                refine mm_aald C S (t := 8) rfl rfl h dX4_init_387 (fun u146 h => ?_)
                refine lv_iload_n hx hb dX4_init_388 rfl (lv_at hl 3 rfl) ?_
                refine lv_iconst (v := (-1)) hx hb dX4_init_389 (by decide) ?_
                refine mm_iast C S h dX4_init_390 (fun M147 H locs h S => ?_)
                refine lv_iinc (v := (x3 + 1)) (lv' := [(3, .int (x3 + 1)), (0, .ref a0), (1, .int x1), (2, .int x2)]) hx hb dX4_init_391 hl (k := 3) rfl rfl (by decide) rfl (fun ls hl => ?_)
                refine lv_goto (tgt := 375) hx hb dX4_init_394 (by decide) ?_
                exact ih375 _ _ _ _ _ _ _ _ _ _ hk S (lv_sub hl [1, 2, 3, 0] rfl) h
          intro k r M H locs ls a0 x1 x2 hk S hl h
          rw [wl_X4_init_367] at h
          refine lv_iload_n hx hb dX4_init_367 rfl (lv_at hl 2 rfl) ?_
          refine lv_bipush (v := 36) hx hb dX4_init_368 (by decide) ?_
          refine lv_icmp_ge (tgt := 403) hx hb dX4_init_370 (by decide) (fun c9 => ?_) (fun c9 => ?_)
          · have h := h.1 c9
            refine lv_iinc (v := (x1 + 1)) (lv' := [(1, .int (x1 + 1)), (0, .ref a0), (2, .int x2)]) hx hb dX4_init_403 hl (k := 1) rfl rfl (by decide) rfl (fun ls hl => ?_)
            refine lv_goto (tgt := 359) hx hb dX4_init_406 (by decide) ?_
            exact ih359 _ _ _ _ _ _ _ _ hk S (lv_sub hl [1, 0] rfl) h
          · have h := h.2 c9
            refine lv_iconst (v := 0) hx hb dX4_init_373 (by decide) ?_
            refine lv_istore_n (lv' := [(3, .int 0), (0, .ref a0), (1, .int x1), (2, .int x2)]) hx hb dX4_init_374 rfl hl (by decide) rfl (fun ls hl => ?_)
            obtain ⟨nf, h⟩ := h
            exact j375 nf _ _ _ _ _ _ _ _ _ _ hk S (lv_sub hl [1, 2, 3, 0] rfl) h
      intro k r M H locs ls a0 x1 hk S hl h
      rw [wl_X4_init_359] at h
      refine lv_iload_n hx hb dX4_init_359 rfl (lv_at hl 1 rfl) ?_
      refine lv_bipush (v := 10) hx hb dX4_init_360 (by decide) ?_
      refine lv_icmp_ge (tgt := 409) hx hb dX4_init_362 (by decide) (fun c9 => ?_) (fun c9 => ?_)
      · have h := h.1 c9
        exact mm_vret C S hr (Nat.le_trans (Nat.le_add_right _ _) hk) dX4_init_409 h
      · have h := h.2 c9
        refine lv_iconst (v := 0) hx hb dX4_init_365 (by decide) ?_
        refine lv_istore_n (lv' := [(2, .int 0), (0, .ref a0), (1, .int x1)]) hx hb dX4_init_366 rfl hl (by decide) rfl (fun ls hl => ?_)
        obtain ⟨nf, h⟩ := h
        exact j367 nf _ _ _ _ _ _ _ _ _ hk S (lv_sub hl [1, 2, 0] rfl) h
  have j332 : ∀ (nf : Nat) (k r : Nat) (M : mM) (H : Heap) (locs : List Loc) (ls : Array Slot) (a0 : Nat) (x1 : Int32), k + r ≤ b → mW G A s M H locs → lv_has ls 4 [(0, .ref a0), (1, .int x1)] → wl_X4_init_332 G P nf r M a0 x1 → W p l e (mRm 10 b) s m args below meth c H locs k k (vx_MQ below (mQ G A (mRv P)) (mXC G A (fun _ _ _ => False)) args s b b A) (F0 m 332 ls []) := by
    intro nf
    induction nf with
    | zero =>
      intro k r M H locs ls a0 x1 hk S hl h
      rw [wl_X4_init_332] at h
      exact h.elim
    | succ n332 ih332 =>
      intro k r M H locs ls a0 x1 hk S hl h
      rw [wl_X4_init_332] at h
      refine lv_iload_n hx hb dX4_init_332 rfl (lv_at hl 1 rfl) ?_
      refine lv_iconst (v := 4) hx hb dX4_init_333 (by decide) ?_
      refine lv_icmp_ge (tgt := 357) hx hb dX4_init_334 (by decide) (fun c9 => ?_) (fun c9 => ?_)
      · have h := h.1 c9
        refine lv_iconst (v := 0) hx hb dX4_init_357 (by decide) ?_
        refine lv_istore_n (lv' := [(1, .int 0), (0, .ref a0)]) hx hb dX4_init_358 rfl hl (by decide) rfl (fun ls hl => ?_)
        obtain ⟨nf, h⟩ := h
        exact j359 nf _ _ _ _ _ _ _ _ hk S (lv_sub hl [1, 0] rfl) h
      · have h := h.2 c9
        refine lv_aload_n hx hb dX4_init_337 rfl (lv_at hl 0 rfl) ?_
        refine mm_gfa C S (ci := 3) (k := 11) rfl in_X4 (by decide) q1681 (fun _ h9 => h9) dX4_init_338 h (fun u140 h => ?_)
        refine lv_iload_n hx hb dX4_init_341 rfl (lv_at hl 1 rfl) ?_
        refine lv_iconst (v := 2) hx hb dX4_init_342 (by decide) ?_
        refine mm_iast C S h dX4_init_343 (fun M141 H locs h S => ?_)
        refine lv_aload_n hx hb dX4_init_344 rfl (lv_at hl 0 rfl) ?_
        refine mm_gfa C S (ci := 3) (k := 12) rfl in_X4 (by decide) q1682 (fun _ h9 => h9) dX4_init_345 h (fun u142 h => ?_)
        refine lv_iload_n hx hb dX4_init_348 rfl (lv_at hl 1 rfl) ?_
        refine lv_iconst (v := 1) hx hb dX4_init_349 (by decide) ?_
        refine mm_iast C S h dX4_init_350 (fun M143 H locs h S => ?_)
        refine lv_iinc (v := (x1 + 1)) (lv' := [(1, .int (x1 + 1)), (0, .ref a0)]) hx hb dX4_init_351 hl (k := 1) rfl rfl (by decide) rfl (fun ls hl => ?_)
        refine lv_goto (tgt := 332) hx hb dX4_init_354 (by decide) ?_
        exact ih332 _ _ _ _ _ _ _ _ hk S (lv_sub hl [1, 0] rfl) h
  have j311 : ∀ (nf : Nat) (k r : Nat) (M : mM) (H : Heap) (locs : List Loc) (ls : Array Slot) (a0 : Nat) (x1 : Int32), k + r ≤ b → mW G A s M H locs → lv_has ls 4 [(0, .ref a0), (1, .int x1)] → wl_X4_init_311 G P nf r M a0 x1 → W p l e (mRm 10 b) s m args below meth c H locs k k (vx_MQ below (mQ G A (mRv P)) (mXC G A (fun _ _ _ => False)) args s b b A) (F0 m 311 ls []) := by
    intro nf
    induction nf with
    | zero =>
      intro k r M H locs ls a0 x1 hk S hl h
      rw [wl_X4_init_311] at h
      exact h.elim
    | succ n311 ih311 =>
      intro k r M H locs ls a0 x1 hk S hl h
      rw [wl_X4_init_311] at h
      refine lv_iload_n hx hb dX4_init_311 rfl (lv_at hl 1 rfl) ?_
      refine lv_bipush (v := 36) hx hb dX4_init_312 (by decide) ?_
      refine lv_icmp_ge (tgt := 330) hx hb dX4_init_314 (by decide) (fun c9 => ?_) (fun c9 => ?_)
      · have h := h.1 c9
        refine lv_iconst (v := 0) hx hb dX4_init_330 (by decide) ?_
        refine lv_istore_n (lv' := [(1, .int 0), (0, .ref a0)]) hx hb dX4_init_331 rfl hl (by decide) rfl (fun ls hl => ?_)
        obtain ⟨nf, h⟩ := h
        exact j332 nf _ _ _ _ _ _ _ _ hk S (lv_sub hl [1, 0] rfl) h
      · have h := h.2 c9
        refine lv_aload_n hx hb dX4_init_317 rfl (lv_at hl 0 rfl) ?_
        refine mm_gfa C S (ci := 3) (k := 5) rfl in_X4 (by decide) q1675 (fun _ h9 => h9) dX4_init_318 h (fun u138 h => ?_)
        refine lv_iload_n hx hb dX4_init_321 rfl (lv_at hl 1 rfl) ?_
        refine lv_iconst (v := (-1)) hx hb dX4_init_322 (by decide) ?_
        refine mm_iast C S h dX4_init_323 (fun M139 H locs h S => ?_)
        refine lv_iinc (v := (x1 + 1)) (lv' := [(1, .int (x1 + 1)), (0, .ref a0)]) hx hb dX4_init_324 hl (k := 1) rfl rfl (by decide) rfl (fun ls hl => ?_)
        refine lv_goto (tgt := 311) hx hb dX4_init_327 (by decide) ?_
        exact ih311 _ _ _ _ _ _ _ _ hk S (lv_sub hl [1, 0] rfl) h
  unfold wp_X4_init at h
  refine lv_aload_n hx hb dX4_init_0 rfl (lv_at hl 0 rfl) ?_
  refine mm_init C hl.1 q1664 q100 q101 dX4_init_1 (Nat.le_of_ble_eq_true rfl) (Nat.le_of_ble_eq_true rfl) ?_
  refine lv_aload_n hx hb dX4_init_4 rfl (lv_at hl 0 rfl) ?_
  refine lv_bipush (v := 36) hx hb dX4_init_5 (by decide) ?_
  refine mm_newa C S (t := 0) (ty := .int) (atype := .int) rfl rfl (by decide) q135 (fun _ h9 => h9) (fun _ => rfl) (by decide) dX4_init_7 rfl rfl hk h (fun u1 M2 r3 k H h S hk => ?_)
  refine mm_pfqF C S (ci := 3) (k := 3) (v := (some u1)) rfl in_X4 tyX4_ok nmX4 (by decide) q1673 (fun _ h9 => h9) rfl (hnm.trans rfl) rfl dX4_init_9 rfl h (fun M4 H locs h S => ?_)
  refine lv_aload_n hx hb dX4_init_12 rfl (lv_at hl 0 rfl) ?_
  refine lv_bipush (v := 36) hx hb dX4_init_13 (by decide) ?_
  refine mm_newa C S (t := 0) (ty := .int) (atype := .int) rfl rfl (by decide) q135 (fun _ h9 => h9) (fun _ => rfl) (by decide) dX4_init_15 rfl rfl hk h (fun u5 M6 r7 k H h S hk => ?_)
  refine mm_pfqF C S (ci := 3) (k := 4) (v := (some u5)) rfl in_X4 tyX4_ok nmX4 (by decide) q1674 (fun _ h9 => h9) rfl (hnm.trans rfl) rfl dX4_init_17 rfl h (fun M8 H locs h S => ?_)
  refine lv_aload_n hx hb dX4_init_20 rfl (lv_at hl 0 rfl) ?_
  refine lv_bipush (v := 36) hx hb dX4_init_21 (by decide) ?_
  refine mm_newa C S (t := 0) (ty := .int) (atype := .int) rfl rfl (by decide) q135 (fun _ h9 => h9) (fun _ => rfl) (by decide) dX4_init_23 rfl rfl hk h (fun u9 M10 r11 k H h S hk => ?_)
  refine mm_pfqF C S (ci := 3) (k := 5) (v := (some u9)) rfl in_X4 tyX4_ok nmX4 (by decide) q1675 (fun _ h9 => h9) rfl (hnm.trans rfl) rfl dX4_init_25 rfl h (fun M12 H locs h S => ?_)
  refine lv_aload_n hx hb dX4_init_28 rfl (lv_at hl 0 rfl) ?_
  refine lv_bipush (v := 36) hx hb dX4_init_29 (by decide) ?_
  refine mm_newa C S (t := 0) (ty := .int) (atype := .int) rfl rfl (by decide) q135 (fun _ h9 => h9) (fun _ => rfl) (by decide) dX4_init_31 rfl rfl hk h (fun u13 M14 r15 k H h S hk => ?_)
  refine mm_pfqF C S (ci := 3) (k := 6) (v := (some u13)) rfl in_X4 tyX4_ok nmX4 (by decide) q1676 (fun _ h9 => h9) rfl (hnm.trans rfl) rfl dX4_init_33 rfl h (fun M16 H locs h S => ?_)
  refine lv_aload_n hx hb dX4_init_36 rfl (lv_at hl 0 rfl) ?_
  refine lv_bipush (v := 36) hx hb dX4_init_37 (by decide) ?_
  refine mm_newa C S (t := 0) (ty := .int) (atype := .int) rfl rfl (by decide) q135 (fun _ h9 => h9) (fun _ => rfl) (by decide) dX4_init_39 rfl rfl hk h (fun u17 M18 r19 k H h S hk => ?_)
  refine mm_pfqF C S (ci := 3) (k := 7) (v := (some u17)) rfl in_X4 tyX4_ok nmX4 (by decide) q1677 (fun _ h9 => h9) rfl (hnm.trans rfl) rfl dX4_init_41 rfl h (fun M20 H locs h S => ?_)
  refine lv_aload_n hx hb dX4_init_44 rfl (lv_at hl 0 rfl) ?_
  refine lv_iconst (v := 4) hx hb dX4_init_45 (by decide) ?_
  refine mm_newa C S (t := 0) (ty := .int) (atype := .int) rfl rfl (by decide) q135 (fun _ h9 => h9) (fun _ => rfl) (by decide) dX4_init_46 rfl rfl hk h (fun u21 M22 r23 k H h S hk => ?_)
  refine mm_pfqF C S (ci := 3) (k := 8) (v := (some u21)) rfl in_X4 tyX4_ok nmX4 (by decide) q1678 (fun _ h9 => h9) rfl (hnm.trans rfl) rfl dX4_init_48 rfl h (fun M24 H locs h S => ?_)
  refine lv_aload_n hx hb dX4_init_51 rfl (lv_at hl 0 rfl) ?_
  refine lv_iconst (v := 4) hx hb dX4_init_52 (by decide) ?_
  refine mm_newa C S (t := 0) (ty := .int) (atype := .int) rfl rfl (by decide) q135 (fun _ h9 => h9) (fun _ => rfl) (by decide) dX4_init_53 rfl rfl hk h (fun u25 M26 r27 k H h S hk => ?_)
  refine mm_pfqF C S (ci := 3) (k := 9) (v := (some u25)) rfl in_X4 tyX4_ok nmX4 (by decide) q1679 (fun _ h9 => h9) rfl (hnm.trans rfl) rfl dX4_init_55 rfl h (fun M28 H locs h S => ?_)
  refine lv_aload_n hx hb dX4_init_58 rfl (lv_at hl 0 rfl) ?_
  refine lv_iconst (v := 4) hx hb dX4_init_59 (by decide) ?_
  refine mm_newa C S (t := 0) (ty := .int) (atype := .int) rfl rfl (by decide) q135 (fun _ h9 => h9) (fun _ => rfl) (by decide) dX4_init_60 rfl rfl hk h (fun u29 M30 r31 k H h S hk => ?_)
  refine mm_pfqF C S (ci := 3) (k := 10) (v := (some u29)) rfl in_X4 tyX4_ok nmX4 (by decide) q1680 (fun _ h9 => h9) rfl (hnm.trans rfl) rfl dX4_init_62 rfl h (fun M32 H locs h S => ?_)
  refine lv_aload_n hx hb dX4_init_65 rfl (lv_at hl 0 rfl) ?_
  refine lv_iconst (v := 4) hx hb dX4_init_66 (by decide) ?_
  refine mm_newa C S (t := 0) (ty := .int) (atype := .int) rfl rfl (by decide) q135 (fun _ h9 => h9) (fun _ => rfl) (by decide) dX4_init_67 rfl rfl hk h (fun u33 M34 r35 k H h S hk => ?_)
  refine mm_pfqF C S (ci := 3) (k := 11) (v := (some u33)) rfl in_X4 tyX4_ok nmX4 (by decide) q1681 (fun _ h9 => h9) rfl (hnm.trans rfl) rfl dX4_init_69 rfl h (fun M36 H locs h S => ?_)
  refine lv_aload_n hx hb dX4_init_72 rfl (lv_at hl 0 rfl) ?_
  refine lv_iconst (v := 4) hx hb dX4_init_73 (by decide) ?_
  refine mm_newa C S (t := 0) (ty := .int) (atype := .int) rfl rfl (by decide) q135 (fun _ h9 => h9) (fun _ => rfl) (by decide) dX4_init_74 rfl rfl hk h (fun u37 M38 r39 k H h S hk => ?_)
  refine mm_pfqF C S (ci := 3) (k := 12) (v := (some u37)) rfl in_X4 tyX4_ok nmX4 (by decide) q1682 (fun _ h9 => h9) rfl (hnm.trans rfl) rfl dX4_init_76 rfl h (fun M40 H locs h S => ?_)
  refine lv_aload_n hx hb dX4_init_79 rfl (lv_at hl 0 rfl) ?_
  refine lv_bipush (v := 8) hx hb dX4_init_80 (by decide) ?_
  refine mm_newa C S (t := 0) (ty := .int) (atype := .int) rfl rfl (by decide) q135 (fun _ h9 => h9) (fun _ => rfl) (by decide) dX4_init_82 rfl rfl hk h (fun u41 M42 r43 k H h S hk => ?_)
  refine mm_pfqF C S (ci := 3) (k := 14) (v := (some u41)) rfl in_X4 tyX4_ok nmX4 (by decide) q1684 (fun _ h9 => h9) rfl (hnm.trans rfl) rfl dX4_init_84 rfl h (fun M44 H locs h S => ?_)
  refine lv_aload_n hx hb dX4_init_87 rfl (lv_at hl 0 rfl) ?_
  refine lv_bipush (v := 8) hx hb dX4_init_88 (by decide) ?_
  refine mm_newa C S (t := 0) (ty := .int) (atype := .int) rfl rfl (by decide) q135 (fun _ h9 => h9) (fun _ => rfl) (by decide) dX4_init_90 rfl rfl hk h (fun u45 M46 r47 k H h S hk => ?_)
  refine mm_pfqF C S (ci := 3) (k := 15) (v := (some u45)) rfl in_X4 tyX4_ok nmX4 (by decide) q1685 (fun _ h9 => h9) rfl (hnm.trans rfl) rfl dX4_init_92 rfl h (fun M48 H locs h S => ?_)
  refine lv_aload_n hx hb dX4_init_95 rfl (lv_at hl 0 rfl) ?_
  refine lv_bipush (v := 8) hx hb dX4_init_96 (by decide) ?_
  refine mm_newa C S (t := 0) (ty := .int) (atype := .int) rfl rfl (by decide) q135 (fun _ h9 => h9) (fun _ => rfl) (by decide) dX4_init_98 rfl rfl hk h (fun u49 M50 r51 k H h S hk => ?_)
  refine mm_pfqF C S (ci := 3) (k := 16) (v := (some u49)) rfl in_X4 tyX4_ok nmX4 (by decide) q1686 (fun _ h9 => h9) rfl (hnm.trans rfl) rfl dX4_init_100 rfl h (fun M52 H locs h S => ?_)
  refine lv_aload_n hx hb dX4_init_103 rfl (lv_at hl 0 rfl) ?_
  refine lv_bipush (v := 8) hx hb dX4_init_104 (by decide) ?_
  refine mm_newa C S (t := 1) (ty := .boolean) (atype := .boolean) rfl rfl (by decide) q1818 (fun _ h9 => h9) (fun _ => rfl) (by decide) dX4_init_106 rfl rfl hk h (fun u53 M54 r55 k H h S hk => ?_)
  refine mm_pfqF C S (ci := 3) (k := 17) (v := (some u53)) rfl in_X4 tyX4_ok nmX4 (by decide) q1687 (fun _ h9 => h9) rfl (hnm.trans rfl) rfl dX4_init_108 rfl h (fun M56 H locs h S => ?_)
  refine lv_aload_n hx hb dX4_init_111 rfl (lv_at hl 0 rfl) ?_
  refine lv_iconst (v := (-1)) hx hb dX4_init_112 (by decide) ?_
  refine mm_pfi C S (ci := 3) (k := 21) rfl in_X4 tyX4_ok nmX4 (by decide) q1691 (fun _ h9 => h9) rfl dX4_init_113 rfl h (fun M57 H locs h S => ?_)
  refine lv_aload_n hx hb dX4_init_116 rfl (lv_at hl 0 rfl) ?_
  refine lv_bipush (v := 60) hx hb dX4_init_117 (by decide) ?_
  refine mm_newa C S (t := 0) (ty := .int) (atype := .int) rfl rfl (by decide) q135 (fun _ h9 => h9) (fun _ => rfl) (by decide) dX4_init_119 rfl rfl hk h (fun u58 M59 r60 k H h S hk => ?_)
  refine mm_pfqF C S (ci := 3) (k := 22) (v := (some u58)) rfl in_X4 tyX4_ok nmX4 (by decide) q1692 (fun _ h9 => h9) rfl (hnm.trans rfl) rfl dX4_init_121 rfl h (fun M61 H locs h S => ?_)
  refine lv_aload_n hx hb dX4_init_124 rfl (lv_at hl 0 rfl) ?_
  refine lv_bipush (v := 8) hx hb dX4_init_125 (by decide) ?_
  refine mm_newa C S (t := 0) (ty := .int) (atype := .int) rfl rfl (by decide) q135 (fun _ h9 => h9) (fun _ => rfl) (by decide) dX4_init_127 rfl rfl hk h (fun u62 M63 r64 k H h S hk => ?_)
  refine mm_pfqF C S (ci := 3) (k := 23) (v := (some u62)) rfl in_X4 tyX4_ok nmX4 (by decide) q1693 (fun _ h9 => h9) rfl (hnm.trans rfl) rfl dX4_init_129 rfl h (fun M65 H locs h S => ?_)
  refine lv_aload_n hx hb dX4_init_132 rfl (lv_at hl 0 rfl) ?_
  refine lv_bipush (v := 8) hx hb dX4_init_133 (by decide) ?_
  refine lv_bipush (v := 31) hx hb dX4_init_135 (by decide) ?_
  refine mm_mnew2 C S (t0 := 8) (t1 := 0) (ty := .int) rfl (by decide) rfl (by decide) (fun _ h9 => h9) q135 rfl rfl (by decide) q1665 rfl dX4_init_137 rfl rfl hk h (fun u66 M67 r68 k H h S hk => ?_)
  refine mm_pfqF C S (ci := 3) (k := 26) (v := (some u66)) rfl in_X4 tyX4_ok nmX4 (by decide) q1696 (fun _ h9 => h9) rfl (hnm.trans rfl) rfl dX4_init_141 rfl h (fun M69 H locs h S => ?_)
  refine lv_aload_n hx hb dX4_init_144 rfl (lv_at hl 0 rfl) ?_
  refine lv_bipush (v := 40) hx hb dX4_init_145 (by decide) ?_
  refine mm_newa C S (t := 0) (ty := .int) (atype := .int) rfl rfl (by decide) q135 (fun _ h9 => h9) (fun _ => rfl) (by decide) dX4_init_147 rfl rfl hk h (fun u70 M71 r72 k H h S hk => ?_)
  refine mm_pfqF C S (ci := 3) (k := 30) (v := (some u70)) rfl in_X4 tyX4_ok nmX4 (by decide) q1700 (fun _ h9 => h9) rfl (hnm.trans rfl) rfl dX4_init_149 rfl h (fun M73 H locs h S => ?_)
  refine lv_aload_n hx hb dX4_init_152 rfl (lv_at hl 0 rfl) ?_
  refine lv_bipush (v := 40) hx hb dX4_init_153 (by decide) ?_
  refine mm_newa C S (t := 0) (ty := .int) (atype := .int) rfl rfl (by decide) q135 (fun _ h9 => h9) (fun _ => rfl) (by decide) dX4_init_155 rfl rfl hk h (fun u74 M75 r76 k H h S hk => ?_)
  refine mm_pfqF C S (ci := 3) (k := 31) (v := (some u74)) rfl in_X4 tyX4_ok nmX4 (by decide) q1701 (fun _ h9 => h9) rfl (hnm.trans rfl) rfl dX4_init_157 rfl h (fun M77 H locs h S => ?_)
  refine lv_aload_n hx hb dX4_init_160 rfl (lv_at hl 0 rfl) ?_
  refine lv_bipush (v := 40) hx hb dX4_init_161 (by decide) ?_
  refine mm_newa C S (t := 0) (ty := .int) (atype := .int) rfl rfl (by decide) q135 (fun _ h9 => h9) (fun _ => rfl) (by decide) dX4_init_163 rfl rfl hk h (fun u78 M79 r80 k H h S hk => ?_)
  refine mm_pfqF C S (ci := 3) (k := 32) (v := (some u78)) rfl in_X4 tyX4_ok nmX4 (by decide) q1702 (fun _ h9 => h9) rfl (hnm.trans rfl) rfl dX4_init_165 rfl h (fun M81 H locs h S => ?_)
  refine lv_aload_n hx hb dX4_init_168 rfl (lv_at hl 0 rfl) ?_
  refine lv_bipush (v := 40) hx hb dX4_init_169 (by decide) ?_
  refine mm_newa C S (t := 0) (ty := .int) (atype := .int) rfl rfl (by decide) q135 (fun _ h9 => h9) (fun _ => rfl) (by decide) dX4_init_171 rfl rfl hk h (fun u82 M83 r84 k H h S hk => ?_)
  refine mm_pfqF C S (ci := 3) (k := 33) (v := (some u82)) rfl in_X4 tyX4_ok nmX4 (by decide) q1703 (fun _ h9 => h9) rfl (hnm.trans rfl) rfl dX4_init_173 rfl h (fun M85 H locs h S => ?_)
  refine lv_aload_n hx hb dX4_init_176 rfl (lv_at hl 0 rfl) ?_
  refine lv_bipush (v := 40) hx hb dX4_init_177 (by decide) ?_
  refine mm_newa C S (t := 0) (ty := .int) (atype := .int) rfl rfl (by decide) q135 (fun _ h9 => h9) (fun _ => rfl) (by decide) dX4_init_179 rfl rfl hk h (fun u86 M87 r88 k H h S hk => ?_)
  refine mm_pfqF C S (ci := 3) (k := 34) (v := (some u86)) rfl in_X4 tyX4_ok nmX4 (by decide) q1704 (fun _ h9 => h9) rfl (hnm.trans rfl) rfl dX4_init_181 rfl h (fun M89 H locs h S => ?_)
  refine lv_aload_n hx hb dX4_init_184 rfl (lv_at hl 0 rfl) ?_
  refine lv_bipush (v := 40) hx hb dX4_init_185 (by decide) ?_
  refine mm_newa C S (t := 0) (ty := .int) (atype := .int) rfl rfl (by decide) q135 (fun _ h9 => h9) (fun _ => rfl) (by decide) dX4_init_187 rfl rfl hk h (fun u90 M91 r92 k H h S hk => ?_)
  refine mm_pfqF C S (ci := 3) (k := 35) (v := (some u90)) rfl in_X4 tyX4_ok nmX4 (by decide) q1705 (fun _ h9 => h9) rfl (hnm.trans rfl) rfl dX4_init_189 rfl h (fun M93 H locs h S => ?_)
  refine lv_aload_n hx hb dX4_init_192 rfl (lv_at hl 0 rfl) ?_
  refine lv_sipush (v := 200) hx hb dX4_init_193 (by decide) ?_
  refine mm_newa C S (t := 0) (ty := .int) (atype := .int) rfl rfl (by decide) q135 (fun _ h9 => h9) (fun _ => rfl) (by decide) dX4_init_196 rfl rfl hk h (fun u94 M95 r96 k H h S hk => ?_)
  refine mm_pfqF C S (ci := 3) (k := 36) (v := (some u94)) rfl in_X4 tyX4_ok nmX4 (by decide) q1706 (fun _ h9 => h9) rfl (hnm.trans rfl) rfl dX4_init_198 rfl h (fun M97 H locs h S => ?_)
  refine lv_aload_n hx hb dX4_init_201 rfl (lv_at hl 0 rfl) ?_
  refine lv_sipush (v := 200) hx hb dX4_init_202 (by decide) ?_
  refine mm_newa C S (t := 0) (ty := .int) (atype := .int) rfl rfl (by decide) q135 (fun _ h9 => h9) (fun _ => rfl) (by decide) dX4_init_205 rfl rfl hk h (fun u98 M99 r100 k H h S hk => ?_)
  refine mm_pfqF C S (ci := 3) (k := 37) (v := (some u98)) rfl in_X4 tyX4_ok nmX4 (by decide) q1707 (fun _ h9 => h9) rfl (hnm.trans rfl) rfl dX4_init_207 rfl h (fun M101 H locs h S => ?_)
  refine lv_aload_n hx hb dX4_init_210 rfl (lv_at hl 0 rfl) ?_
  refine lv_sipush (v := 200) hx hb dX4_init_211 (by decide) ?_
  refine mm_newa C S (t := 0) (ty := .int) (atype := .int) rfl rfl (by decide) q135 (fun _ h9 => h9) (fun _ => rfl) (by decide) dX4_init_214 rfl rfl hk h (fun u102 M103 r104 k H h S hk => ?_)
  refine mm_pfqF C S (ci := 3) (k := 38) (v := (some u102)) rfl in_X4 tyX4_ok nmX4 (by decide) q1708 (fun _ h9 => h9) rfl (hnm.trans rfl) rfl dX4_init_216 rfl h (fun M105 H locs h S => ?_)
  refine lv_aload_n hx hb dX4_init_219 rfl (lv_at hl 0 rfl) ?_
  refine lv_sipush (v := 200) hx hb dX4_init_220 (by decide) ?_
  refine mm_newa C S (t := 0) (ty := .int) (atype := .int) rfl rfl (by decide) q135 (fun _ h9 => h9) (fun _ => rfl) (by decide) dX4_init_223 rfl rfl hk h (fun u106 M107 r108 k H h S hk => ?_)
  refine mm_pfqF C S (ci := 3) (k := 39) (v := (some u106)) rfl in_X4 tyX4_ok nmX4 (by decide) q1709 (fun _ h9 => h9) rfl (hnm.trans rfl) rfl dX4_init_225 rfl h (fun M109 H locs h S => ?_)
  refine lv_aload_n hx hb dX4_init_228 rfl (lv_at hl 0 rfl) ?_
  refine lv_sipush (v := 200) hx hb dX4_init_229 (by decide) ?_
  refine mm_newa C S (t := 0) (ty := .int) (atype := .int) rfl rfl (by decide) q135 (fun _ h9 => h9) (fun _ => rfl) (by decide) dX4_init_232 rfl rfl hk h (fun u110 M111 r112 k H h S hk => ?_)
  refine mm_pfqF C S (ci := 3) (k := 40) (v := (some u110)) rfl in_X4 tyX4_ok nmX4 (by decide) q1710 (fun _ h9 => h9) rfl (hnm.trans rfl) rfl dX4_init_234 rfl h (fun M113 H locs h S => ?_)
  refine lv_aload_n hx hb dX4_init_237 rfl (lv_at hl 0 rfl) ?_
  refine lv_bipush (v := 40) hx hb dX4_init_238 (by decide) ?_
  refine lv_bipush (v := 36) hx hb dX4_init_240 (by decide) ?_
  refine lv_iconst (v := 4) hx hb dX4_init_242 (by decide) ?_
  refine mm_mnew3 C S (t0 := 9) (t1 := 8) (t2 := 0) (ty := .int) rfl (by decide) rfl (by decide) rfl (by decide) (fun _ h9 => h9) rfl rfl rfl (by decide) q1666 rfl dX4_init_243 rfl rfl hk h (fun u114 M115 r116 k H h S hk => ?_)
  refine mm_pfqF C S (ci := 3) (k := 41) (v := (some u114)) rfl in_X4 tyX4_ok nmX4 (by decide) q1711 (fun _ h9 => h9) rfl (hnm.trans rfl) rfl dX4_init_247 rfl h (fun M117 H locs h S => ?_)
  refine lv_aload_n hx hb dX4_init_250 rfl (lv_at hl 0 rfl) ?_
  refine lv_bipush (v := 40) hx hb dX4_init_251 (by decide) ?_
  refine lv_bipush (v := 36) hx hb dX4_init_253 (by decide) ?_
  refine mm_mnew2 C S (t0 := 10) (t1 := 1) (ty := .boolean) rfl (by decide) rfl (by decide) (fun _ h9 => h9) q1818 rfl rfl (by decide) q1668 rfl dX4_init_255 rfl rfl hk h (fun u118 M119 r120 k H h S hk => ?_)
  refine mm_pfqF C S (ci := 3) (k := 42) (v := (some u118)) rfl in_X4 tyX4_ok nmX4 (by decide) q1712 (fun _ h9 => h9) rfl (hnm.trans rfl) rfl dX4_init_259 rfl h (fun M121 H locs h S => ?_)
  refine lv_aload_n hx hb dX4_init_262 rfl (lv_at hl 0 rfl) ?_
  refine lv_iconst (v := 3) hx hb dX4_init_263 (by decide) ?_
  refine lv_iconst (v := 4) hx hb dX4_init_264 (by decide) ?_
  refine mm_mnew2 C S (t0 := 8) (t1 := 0) (ty := .int) rfl (by decide) rfl (by decide) (fun _ h9 => h9) q135 rfl rfl (by decide) q1665 rfl dX4_init_265 rfl rfl hk h (fun u122 M123 r124 k H h S hk => ?_)
  refine mm_pfqF C S (ci := 3) (k := 43) (v := (some u122)) rfl in_X4 tyX4_ok nmX4 (by decide) q1713 (fun _ h9 => h9) rfl (hnm.trans rfl) rfl dX4_init_269 rfl h (fun M125 H locs h S => ?_)
  refine lv_aload_n hx hb dX4_init_272 rfl (lv_at hl 0 rfl) ?_
  refine lv_iconst (v := 4) hx hb dX4_init_273 (by decide) ?_
  refine lv_iconst (v := 3) hx hb dX4_init_274 (by decide) ?_
  refine lv_iconst (v := 4) hx hb dX4_init_275 (by decide) ?_
  refine mm_mnew3 C S (t0 := 9) (t1 := 8) (t2 := 0) (ty := .int) rfl (by decide) rfl (by decide) rfl (by decide) (fun _ h9 => h9) rfl rfl rfl (by decide) q1666 rfl dX4_init_276 rfl rfl hk h (fun u126 M127 r128 k H h S hk => ?_)
  refine mm_pfqF C S (ci := 3) (k := 44) (v := (some u126)) rfl in_X4 tyX4_ok nmX4 (by decide) q1714 (fun _ h9 => h9) rfl (hnm.trans rfl) rfl dX4_init_280 rfl h (fun M129 H locs h S => ?_)
  refine lv_aload_n hx hb dX4_init_283 rfl (lv_at hl 0 rfl) ?_
  refine lv_bipush (v := 10) hx hb dX4_init_284 (by decide) ?_
  refine lv_bipush (v := 36) hx hb dX4_init_286 (by decide) ?_
  refine lv_iconst (v := 4) hx hb dX4_init_288 (by decide) ?_
  refine mm_mnew3 C S (t0 := 9) (t1 := 8) (t2 := 0) (ty := .int) rfl (by decide) rfl (by decide) rfl (by decide) (fun _ h9 => h9) rfl rfl rfl (by decide) q1666 rfl dX4_init_289 rfl rfl hk h (fun u130 M131 r132 k H h S hk => ?_)
  refine mm_pfqF C S (ci := 3) (k := 45) (v := (some u130)) rfl in_X4 tyX4_ok nmX4 (by decide) q1715 (fun _ h9 => h9) rfl (hnm.trans rfl) rfl dX4_init_293 rfl h (fun M133 H locs h S => ?_)
  refine lv_aload_n hx hb dX4_init_296 rfl (lv_at hl 0 rfl) ?_
  refine lv_bipush (v := 10) hx hb dX4_init_297 (by decide) ?_
  refine lv_bipush (v := 36) hx hb dX4_init_299 (by decide) ?_
  refine lv_iconst (v := 4) hx hb dX4_init_301 (by decide) ?_
  refine mm_mnew3 C S (t0 := 9) (t1 := 8) (t2 := 0) (ty := .int) rfl (by decide) rfl (by decide) rfl (by decide) (fun _ h9 => h9) rfl rfl rfl (by decide) q1666 rfl dX4_init_302 rfl rfl hk h (fun u134 M135 r136 k H h S hk => ?_)
  refine mm_pfqF C S (ci := 3) (k := 46) (v := (some u134)) rfl in_X4 tyX4_ok nmX4 (by decide) q1716 (fun _ h9 => h9) rfl (hnm.trans rfl) rfl dX4_init_306 rfl h (fun M137 H locs h S => ?_)
  refine lv_iconst (v := 0) hx hb dX4_init_309 (by decide) ?_
  refine lv_istore_n (lv' := [(1, .int 0), (0, .ref a0)]) hx hb dX4_init_310 rfl hl (by decide) rfl (fun ls hl => ?_)
  obtain ⟨nf, h⟩ := h
  exact j311 nf _ _ _ _ _ _ _ _ hk S (lv_sub hl [1, 0] rfl) h
/-! X4_is: level 11 -/
def wb_X4_is_17 (G : mG) (P : Int32 → mM → Prop) (r : Nat) (M : mM) (s0 : Int32) : Prop :=
  narrow .boolean (.int s0) = .int s0 ∧ P s0 M
def wp_X4_is (G : mG) (b : Nat) (P : Int32 → mM → Prop) (M : mM) (a0 : Nat) (x1 : Int32) : Prop :=
  gfi M a0 3 19 fun v1 => isc M a0 3 ∧ (wp_X4_letter G 0 (fun v3 M2 => (¬ v3 = x1 → wb_X4_is_17 G P b M2 0) ∧ (v3 = x1 → wb_X4_is_17 G P b M2 1)) M a0 v1)
set_option maxHeartbeats 4000000 in
set_option maxRecDepth 100000 in
theorem wk_X4_is {l : Launch} (hst0 : l.stackTraces = false) {G : mG} {b : Nat} {P : Int32 → mM → Prop} {M : mM} {a0 : Nat} {x1 : Int32} (h : wp_X4_is G b P M a0 x1) : mMet l yX4_is (ws_ yX4_is cX4_is 2 (Option.some Jvm.ClassFile.FieldType.boolean)) 11 b G [.ref a0, .int x1] M (mRi P) (fun _ _ _ => False) := by
  refine mm_met hst0 (by decide) (Nat.le_of_ble_eq_true rfl) ?_
  intro p e s m args below meth c ls C hr hnt hnm hl S
  have hl : lv_has ls 2 [(0, .ref a0), (1, .int x1)] := hl
  generalize mA M s.heap.size = A at C S ⊢
  have hx := C.hx
  have hb := C.hb
  have hk : 0 + b ≤ b := Nat.le_of_eq (Nat.zero_add b)
  have j17 : ∀ (k r : Nat) (M : mM) (H : Heap) (locs : List Loc) (ls : Array Slot) (s0 : Int32), k + r ≤ b → mW G A s M H locs → lv_has ls 2 [] → wb_X4_is_17 G P r M s0 → W p l e (mRm 11 b) s m args below meth c H locs k k (vx_MQ below (mQ G A (mRi P)) (mXC G A (fun _ _ _ => False)) args s b b A) (F0 m 17 ls [.int s0]) := by
    intro k r M H locs ls s0 hk S hl h
    unfold wb_X4_is_17 at h
    exact mm_zret C S hr (Nat.le_trans (Nat.le_add_right _ _) hk) dX4_is_17 h
  unfold wp_X4_is at h
  refine lv_aload_n hx hb dX4_is_0 rfl (lv_at hl 0 rfl) ?_
  refine lv_aload_n hx hb dX4_is_1 rfl (lv_at hl 0 rfl) ?_
  refine mm_gfi C S (ci := 3) (k := 19) rfl in_X4 (by decide) q1689 (fun _ h9 => h9) dX4_is_2 h (fun v1 h => ?_)
  obtain ⟨hI, h⟩ := h
  refine mm_V (As := [.int v1]) (rest := []) C S hl.1 (wk_X4_letter hst0 h) (T := TX4) rfl hI (lw_V q1906 q1908 qs29 q58 q1909) rfl pd_X4_letter ⟨Nat.le_of_ble_eq_true rfl, Nat.le_of_ble_eq_true rfl⟩ rfl rfl (Nat.le_of_ble_eq_true rfl) dX4_is_5 rfl rfl hk (Nat.zero_add _) (fun v9 M2 H locs hP S hk => ?_) (fun E q ce M9 H9 locs9 hX => hX.elim)
  obtain ⟨v3, rfl, h⟩ := hP
  refine W.eq (g2 := F0 m 8 ls [.int v3]) rfl ?_
  refine lv_iload_n hx hb dX4_is_8 rfl (lv_at hl 1 rfl) ?_
  refine lv_icmp_ne (tgt := 16) hx hb dX4_is_9 (by decide) (fun c9 => ?_) (fun c9 => ?_)
  · have h := h.1 c9
    refine lv_iconst (v := 0) hx hb dX4_is_16 (by decide) ?_
    exact j17 _ _ _ _ _ _ _ hk S (lv_sub hl [] rfl) h
  · have h := h.2 c9
    refine lv_iconst (v := 1) hx hb dX4_is_12 (by decide) ?_
    refine lv_goto (tgt := 17) hx hb dX4_is_13 (by decide) ?_
    exact j17 _ _ _ _ _ _ _ hk S (lv_sub hl [] rfl) h
/-! X4_isWay: level 10 -/
def wb_X4_isWay_29 (G : mG) (P : Int32 → mM → Prop) (r : Nat) (M : mM) (s0 : Int32) : Prop :=
  narrow .boolean (.int s0) = .int s0 ∧ P s0 M
def wb_X4_isWay_24 (G : mG) (P : Int32 → mM → Prop) (r : Nat) (M : mM) : Prop :=
  wb_X4_isWay_29 G P r M 1
def wp_X4_isWay (G : mG) (b : Nat) (P : Int32 → mM → Prop) (M : mM) (x0 : Int32) : Prop :=
  (x0 = 78 → wb_X4_isWay_24 G P b M) ∧ (¬ x0 = 78 → (x0 = 69 → wb_X4_isWay_24 G P b M) ∧ (¬ x0 = 69 → (x0 = 83 → wb_X4_isWay_24 G P b M) ∧ (¬ x0 = 83 → (¬ x0 = 87 → wb_X4_isWay_29 G P b M 0) ∧ (x0 = 87 → wb_X4_isWay_24 G P b M))))
set_option maxHeartbeats 4000000 in
set_option maxRecDepth 100000 in
theorem wk_X4_isWay {l : Launch} (hst0 : l.stackTraces = false) {G : mG} {b : Nat} {P : Int32 → mM → Prop} {M : mM} {x0 : Int32} (h : wp_X4_isWay G b P M x0) : mMet l yX4_isWay (ws_ yX4_isWay cX4_isWay 1 (Option.some Jvm.ClassFile.FieldType.boolean)) 10 b G [.int x0] M (mRi P) (fun _ _ _ => False) := by
  refine mm_met hst0 (by decide) (Nat.le_of_ble_eq_true rfl) ?_
  intro p e s m args below meth c ls C hr hnt hnm hl S
  have hl : lv_has ls 1 [(0, .int x0)] := hl
  generalize mA M s.heap.size = A at C S ⊢
  have hx := C.hx
  have hb := C.hb
  have hk : 0 + b ≤ b := Nat.le_of_eq (Nat.zero_add b)
  have j29 : ∀ (k r : Nat) (M : mM) (H : Heap) (locs : List Loc) (ls : Array Slot) (s0 : Int32), k + r ≤ b → mW G A s M H locs → lv_has ls 1 [] → wb_X4_isWay_29 G P r M s0 → W p l e (mRm 10 b) s m args below meth c H locs k k (vx_MQ below (mQ G A (mRi P)) (mXC G A (fun _ _ _ => False)) args s b b A) (F0 m 29 ls [.int s0]) := by
    intro k r M H locs ls s0 hk S hl h
    unfold wb_X4_isWay_29 at h
    exact mm_zret C S hr (Nat.le_trans (Nat.le_add_right _ _) hk) dX4_isWay_29 h
  have j24 : ∀ (k r : Nat) (M : mM) (H : Heap) (locs : List Loc) (ls : Array Slot), k + r ≤ b → mW G A s M H locs → lv_has ls 1 [] → wb_X4_isWay_24 G P r M → W p l e (mRm 10 b) s m args below meth c H locs k k (vx_MQ below (mQ G A (mRi P)) (mXC G A (fun _ _ _ => False)) args s b b A) (F0 m 24 ls []) := by
    intro k r M H locs ls  hk S hl h
    unfold wb_X4_isWay_24 at h
    refine lv_iconst (v := 1) hx hb dX4_isWay_24 (by decide) ?_
    refine lv_goto (tgt := 29) hx hb dX4_isWay_25 (by decide) ?_
    exact j29 _ _ _ _ _ _ _ hk S hl h
  unfold wp_X4_isWay at h
  refine lv_iload_n hx hb dX4_isWay_0 rfl (lv_at hl 0 rfl) ?_
  refine lv_bipush (v := 78) hx hb dX4_isWay_1 (by decide) ?_
  refine lv_icmp_eq (tgt := 24) hx hb dX4_isWay_3 (by decide) (fun c9 => ?_) (fun c9 => ?_)
  · have h := h.1 c9
    exact j24 _ _ _ _ _ _ hk S (lv_sub hl [] rfl) h
  · have h := h.2 c9
    refine lv_iload_n hx hb dX4_isWay_6 rfl (lv_at hl 0 rfl) ?_
    refine lv_bipush (v := 69) hx hb dX4_isWay_7 (by decide) ?_
    refine lv_icmp_eq (tgt := 24) hx hb dX4_isWay_9 (by decide) (fun c9 => ?_) (fun c9 => ?_)
    · have h := h.1 c9
      exact j24 _ _ _ _ _ _ hk S (lv_sub hl [] rfl) h
    · have h := h.2 c9
      refine lv_iload_n hx hb dX4_isWay_12 rfl (lv_at hl 0 rfl) ?_
      refine lv_bipush (v := 83) hx hb dX4_isWay_13 (by decide) ?_
      refine lv_icmp_eq (tgt := 24) hx hb dX4_isWay_15 (by decide) (fun c9 => ?_) (fun c9 => ?_)
      · have h := h.1 c9
        exact j24 _ _ _ _ _ _ hk S (lv_sub hl [] rfl) h
      · have h := h.2 c9
        refine lv_iload_n hx hb dX4_isWay_18 rfl (lv_at hl 0 rfl) ?_
        refine lv_bipush (v := 87) hx hb dX4_isWay_19 (by decide) ?_
        refine lv_icmp_ne (tgt := 28) hx hb dX4_isWay_21 (by decide) (fun c9 => ?_) (fun c9 => ?_)
        · have h := h.1 c9
          refine lv_iconst (v := 0) hx hb dX4_isWay_28 (by decide) ?_
          exact j29 _ _ _ _ _ _ _ hk S (lv_sub hl [] rfl) h
        · have h := h.2 c9
          exact j24 _ _ _ _ _ _ hk S (lv_sub hl [] rfl) h
