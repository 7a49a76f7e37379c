/-! THE TWIN's closing -/
theorem lt_on {S : bS} {p : Nat} (h : p < nn (S 18 0 0 0)) : lt S p = S 22 p 0 0 := by unfold lt; rw [if_neg (by omega)]
theorem lt_in {S : bS} {p : Nat} {x : Int32} (h : lt S p = x) (hx : ¬ x = -1) : p < nn (S 18 0 0 0) := by
  refine Nat.not_le.mp fun z => ?_
  rw [lt_off z] at h
  exact hx h.symm
theorem way_ne {x : Int32} (h : wayB x = true) : ¬ x = 40 ∧ ¬ x = 41 := by
  constructor
  · intro z; rw [z] at h; exact absurd h (by decide)
  · intro z; rw [z] at h; exact absurd h (by decide)
theorem i_p (c : Nat) : Int32.ofNat (c + 1) + (-1) = Int32.ofNat c := by
  rw [← i_s, Int32.add_assoc, show (1 : Int32) + -1 = 0 from rfl, Int32.add_zero]
section B63
variable {G : mG} {b : Nat} {am : Nat} {ad : bA}
/-- closing from a place on -/
def clW (G : mG) (P : Int32 → mM → Prop) (b am : Nat) (M : mM) (c p : Nat) : Prop := ∃ f, wl_X4_closing_4 G P f b M am (Int32.ofNat c) (Int32.ofNat p)
theorem cl_one {P : Int32 → mM → Prop} {M : mM} {S : bS} (h : bM M am ad S) (hL : bIn (S 18 0 0 0) 0 60 = true) {c p : Nat} (hp : p < nn (S 18 0 0 0)) (h40 : ¬ lt S p = 40) (h41 : ¬ lt S p = 41) (k : clW G P b am M c (p + 1)) : clW G P b am M c p := by
  have hle : nn (S 18 0 0 0) ≤ 60 := i_nle (bIn_t hL).1 (bIn_t hL).2
  have hx : vp_in (Int32.ofNat p) 60 := i_vp (by omega) (by omega)
  have e : (Int32.ofNat p).toNatClampNeg = p := i_nn (by omega)
  rw [lt_on hp] at h40 h41
  obtain ⟨f, k⟩ := k
  refine ⟨f + 1, ?_⟩
  unfold wl_X4_closing_4 wb_X4_closing_18 wb_X4_closing_38
  refine b_gfa h (by decide) (b_ld1 h (by decide) hx ?_)
  rw [e]
  refine ⟨fun _ => b_gfa h (by decide) (b_ld1 h (by decide) hx ?_), fun z => absurd z h40⟩
  rw [e]
  refine ⟨fun _ => ?_, fun z => absurd z h41⟩
  rw [i_s]
  exact k
theorem cl_open {P : Int32 → mM → Prop} {M : mM} {S : bS} (h : bM M am ad S) (hL : bIn (S 18 0 0 0) 0 60 = true) {c p : Nat} (h40 : lt S p = 40) (k : clW G P b am M (c + 1) (p + 1)) : clW G P b am M c p := by
  have hp := lt_in h40 (by decide)
  have hle : nn (S 18 0 0 0) ≤ 60 := i_nle (bIn_t hL).1 (bIn_t hL).2
  have hx : vp_in (Int32.ofNat p) 60 := i_vp (by omega) (by omega)
  have e : (Int32.ofNat p).toNatClampNeg = p := i_nn (by omega)
  rw [lt_on hp] at h40
  obtain ⟨f, k⟩ := k
  refine ⟨f + 1, ?_⟩
  unfold wl_X4_closing_4 wb_X4_closing_18 wb_X4_closing_38
  refine b_gfa h (by decide) (b_ld1 h (by decide) hx ?_)
  rw [e]
  refine ⟨fun z => absurd h40 z, fun _ => b_gfa h (by decide) (b_ld1 h (by decide) hx ?_)⟩
  rw [e]
  refine ⟨fun _ => ?_, fun z => ?_⟩
  · rw [i_s, i_s]
    exact k
  · rw [h40] at z
    exact absurd z (by decide)
theorem cl_shut {P : Int32 → mM → Prop} {M : mM} {S : bS} (h : bM M am ad S) (hL : bIn (S 18 0 0 0) 0 60 = true) {c p : Nat} (hc : c < 2 ^ 30) (h41 : lt S p = 41) (k : if c = 0 then P (Int32.ofNat p) M else clW G P b am M c (p + 1)) : clW G P b am M (c + 1) p := by
  have hp := lt_in h41 (by decide)
  have hle : nn (S 18 0 0 0) ≤ 60 := i_nle (bIn_t hL).1 (bIn_t hL).2
  have hx : vp_in (Int32.ofNat p) 60 := i_vp (by omega) (by omega)
  have e : (Int32.ofNat p).toNatClampNeg = p := i_nn (by omega)
  rw [lt_on hp] at h41
  have pre : ∀ f, (¬ c = 0 → wl_X4_closing_4 G P f b M am (Int32.ofNat c) (Int32.ofNat (p + 1))) → (c = 0 → P (Int32.ofNat p) M) → wl_X4_closing_4 G P (f + 1) b M am (Int32.ofNat (c + 1)) (Int32.ofNat p) := by
    intro f k1 k2
    unfold wl_X4_closing_4 wb_X4_closing_18 wb_X4_closing_38
    refine b_gfa h (by decide) (b_ld1 h (by decide) hx ?_)
    rw [e]
    refine ⟨fun _ => b_gfa h (by decide) (b_ld1 h (by decide) hx ?_), fun z => ?_⟩
    · rw [e]
      refine ⟨fun z => absurd h41 z, fun _ => ?_⟩
      rw [i_p, i_s]
      refine ⟨fun z => k1 fun y => z (by rw [y]; rfl), fun z => k2 ?_⟩
      have := congrArg nn z
      rw [i_nn (by omega)] at this
      exact this
    · rw [h41] at z
      exact absurd z (by decide)
  by_cases c0 : c = 0
  · rw [if_pos c0] at k
    exact ⟨1, pre 0 (fun y => absurd c0 y) fun _ => k⟩
  · rw [if_neg c0] at k
    obtain ⟨f, k⟩ := k
    exact ⟨f + 1, pre f (fun _ => k) fun y => absurd y c0⟩
theorem cl_nx {P : Int32 → mM → Prop} {M : mM} {S : bS} (h : bM M am ad S) (hL : bIn (S 18 0 0 0) 0 60 = true) {c p : Nat} (k : clW G P b am M c (nx (lt S) p)) : clW G P b am M c p := by
  unfold nx at k
  by_cases z : bIn (lt S p) 50 57 = true
  · rw [if_pos z] at k
    have hne : ¬ lt S p = 40 ∧ ¬ lt S p = 41 ∧ ¬ lt S p = -1 := by
      refine ⟨fun y => ?_, fun y => ?_, fun y => ?_⟩ <;> (rw [y] at z; exact absurd z (by decide))
    exact cl_one h hL (lt_in rfl hne.2.2) hne.1 hne.2.1 k
  · rw [if_neg z] at k
    exact k
theorem cl_items {P : Int32 → mM → Prop} {M : mM} {S : bS} (h : bM M am ad S) (hL : bIn (S 18 0 0 0) 0 60 = true) : ∀ n d p c, 1 ≤ c → c + n < 1000 → (rdI (lt S) n d p).1 = 0 → clW G P b am M c (rdI (lt S) n d p).2.1 → clW G P b am M c p
  | 0, _, _, _, _, _, hr, _ => absurd hr (by show ¬ (1 : Int32) = 0; decide)
  | n + 1, d, p, c, hc, hn, hr, k => by
    have tl : ∀ q fl, (rdT (lt S) (rdI (lt S) n d) q fl).1 = 0 → clW G P b am M c (rdT (lt S) (rdI (lt S) n d) q fl).2.1 → clW G P b am M c q := by
      intro q fl h1 k1
      rw [rdT_1] at h1
      rw [rdT_2] at k1
      unfold rdL at h1 k1
      refine cl_nx h hL ?_
      by_cases hi : itemB (lt S (nx (lt S) q)) = true
      · rw [if_pos hi] at h1 k1
        exact cl_items h hL n d _ c hc (by omega) h1 k1
      · rw [if_neg hi] at k1
        exact k1
    by_cases hi : itemB (lt S p) = true
    · have hlt := it_on hi
      have ex : rdI (lt S) (n + 1) d p = (if lt S p = 40 then (if d = 4 then (2, p, []) else if (rdI (lt S) n (d + 1) (p + 1)).1 = 0 then (if lt S (rdI (lt S) n (d + 1) (p + 1)).2.1 = 41 then rdT (lt S) (rdI (lt S) n d) ((rdI (lt S) n (d + 1) (p + 1)).2.1 + 1) (rdI (lt S) n (d + 1) (p + 1)).2.2 else (1, (rdI (lt S) n (d + 1) (p + 1)).2.1, [])) else rdI (lt S) n (d + 1) (p + 1)) else rdT (lt S) (rdI (lt S) n d) (p + 1) [(lt S p, p)]) := by
        show (if itemB (lt S p) = true then _ else _) = _
        rw [if_pos hi]
      rw [ex] at hr k
      by_cases z : lt S p = 40
      · rw [if_pos z] at hr k
        by_cases d4 : d = 4
        · rw [if_pos d4] at hr
          exact absurd hr (by show ¬ (2 : Int32) = 0; decide)
        · rw [if_neg d4] at hr k
          by_cases r0 : (rdI (lt S) n (d + 1) (p + 1)).1 = 0
          · rw [if_pos r0] at hr k
            by_cases y : lt S (rdI (lt S) n (d + 1) (p + 1)).2.1 = 41
            · rw [if_pos y] at hr k
              refine cl_open h hL z (cl_items h hL n (d + 1) (p + 1) (c + 1) (by omega) (by omega) r0 (cl_shut h hL (by omega) y ?_))
              rw [if_neg (by omega)]
              exact tl _ _ hr k
            · rw [if_neg y] at hr
              exact absurd hr (by show ¬ (1 : Int32) = 0; decide)
          · rw [if_neg r0] at hr
            exact absurd hr r0
      · rw [if_neg z] at hr k
        have hw : wayB (lt S p) = true := by
          unfold itemB at hi
          rw [decide_eq_false z, Bool.false_or] at hi
          exact hi
        exact cl_one h hL hlt (way_ne hw).1 (way_ne hw).2 (tl _ _ hr k)
    · have hi2 : itemB (lt S p) = false := by simpa using hi
      rw [rdI_no hi2] at hr
      exact absurd hr (by show ¬ (1 : Int32) = 0; decide)
/-- the bracket that closes one -/
theorem b_closing {P : Int32 → mM → Prop} {M : mM} {S : bS} (h : bM M am ad S) (hL : bIn (S 18 0 0 0) 0 60 = true) {n d p : Nat} (hn : n < 900) (h40 : lt S p = 40) (hr : (rdI (lt S) n d (p + 1)).1 = 0) (h41 : lt S (rdI (lt S) n d (p + 1)).2.1 = 41) (kk : P (Int32.ofNat (rdI (lt S) n d (p + 1)).2.1) M) : wp_X4_closing G b P M am (Int32.ofNat p) := by
  unfold wp_X4_closing
  exact cl_open (c := 0) h hL h40 (cl_items h hL n d (p + 1) 1 (by omega) (by omega) hr (cl_shut (c := 0) h hL (by omega) h41 (by rw [if_pos rfl]; exact kk)))
end B63
