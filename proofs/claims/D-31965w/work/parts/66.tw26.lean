/-! THE TWIN's go: the walk -/
theorem rdL_le {S : bS} {n d p : Nat} (h : p ≤ nn (S 18 0 0 0)) : (rdL (lt S) n d p).2.1 ≤ nn (S 18 0 0 0) ∧ p ≤ (rdL (lt S) n d p).2.1 := by
  unfold rdL
  split
  · exact rdI_le n d p h
  · exact ⟨h, Nat.le_refl _⟩
theorem run_1 (c : Int32) (p : Nat) (S : bS) : runL [(c, p)] S = sStp S c p ∧ runE [(c, p)] S = eSt S c := by
  show (if eSt S c = 0 then sStp S c p else sStp S c p) = _ ∧ (if eSt S c = 0 then 0 else eSt S c) = _
  constructor
  · split <;> rfl
  · split
    · next h => exact h.symm
    · rfl
section B66
variable {G : mG} {am : Nat} {ad : bA}
def goOk (G : mG) (am : Nat) (ad : bA) (n : Nat) : Prop := ∀ (b d m p q : Nat) (M : mM) (S : bS) (P : Int32 → mM → Prop), n < 900 → d ≤ 4 → m + d = 6 → nn (S 18 0 0 0) < p + n → n < q → p ≤ nn (S 18 0 0 0) → bM M am ad S → gI S → (rdL (lt S) n d p).1 = 0 → (∀ M', bM M' am ad (runL (rdL (lt S) n d p).2.2 S) → P (bI (decide (runE (rdL (lt S) n d p).2.2 S = 0))) M') → wl_X4_go_2 (wR_X4_go m) G P q b M am (Int32.ofNat (rdL (lt S) n d p).2.1) (Int32.ofNat p)
theorem b_go27 {n : Nat} (IH : goOk G am ad n) {b d m p q last : Nat} {M : mM} {S : bS} {P : Int32 → mM → Prop} (hn9 : n < 900) (hd : d ≤ 4) (hm : m + d = 6) (hpn : nn (S 18 0 0 0) < last + 1 + n) (hq : n < q) (hl : last < nn (S 18 0 0 0)) (h : bM M am ad S) (hg : gI S) {u : List (Int32 × Nat)} (hu1 : ¬ Int32.ofNat last = Int32.ofNat p → unOk am ad S u fun K M => wR_X4_go m G 0 K M am (Int32.ofNat p + 1) (Int32.ofNat last)) (hu2 : Int32.ofNat last = Int32.ofNat p → unOk am ad S u fun K M => wp_X4_step G 0 K M am (Int32.ofNat p)) (hr : (rdL (lt S) n d (nx (lt S) (last + 1))).1 = 0) (kk : ∀ M', bM M' am ad (runL (repL u (ts (lt S) (last + 1)) ++ (rdL (lt S) n d (nx (lt S) (last + 1))).2.2) S) → P (bI (decide (runE (repL u (ts (lt S) (last + 1)) ++ (rdL (lt S) n d (nx (lt S) (last + 1))).2.2) S = 0))) M') : wb_X4_go_27 (wR_X4_go m) G P (wl_X4_go_2 (wR_X4_go m) G P q) b M am (Int32.ofNat (rdL (lt S) n d (nx (lt S) (last + 1))).2.1) (Int32.ofNat p) (Int32.ofNat last) := by
  have hL := hg.1
  have hle : nn (S 18 0 0 0) ≤ 60 := i_nle (bIn_t hL).1 (bIn_t hL).2
  have e1 := (run_app (repL u (ts (lt S) (last + 1))) (rdL (lt S) n d (nx (lt S) (last + 1))).2.2 S).1
  have e2 := (run_app (repL u (ts (lt S) (last + 1))) (rdL (lt S) n d (nx (lt S) (last + 1))).2.2 S).2
  rw [e1, e2] at kk
  obtain ⟨g1, g2⟩ := nx_le (S := S) (q := last + 1) (by omega)
  have tl : ∀ (x5 : Int32) (N : Nat), N = ts (lt S) (last + 1) → N ≤ 9 → (if x5 = 0 then Int32.ofNat last + 1 else Int32.ofNat last + 2) = Int32.ofNat (nx (lt S) (last + 1)) → wb_X4_go_67 (wR_X4_go m) G P (wl_X4_go_2 (wR_X4_go m) G P q) b M am (Int32.ofNat (rdL (lt S) n d (nx (lt S) (last + 1))).2.1) (Int32.ofNat p) (Int32.ofNat last) x5 (Int32.ofNat N) := by
    intro x5 N hN hN9 hx
    unfold wb_X4_go_67
    refine ⟨N + 1, b_go72 hN9 hu1 hu2 N 0 (N + 1) M S (by omega) (by omega) h hg ⟨rfl, rfl⟩ (fun h0 M' hM' => ?_) (fun h0 M' hM' => ?_)⟩
    · rw [hx]
      rw [hN] at h0 hM'
      rw [if_pos h0, if_pos h0] at kk
      have el : lt (runL (repL u (ts (lt S) (last + 1))) S) = lt S := lt_of (run_of _ S) (by decide) (by decide)
      have e18 : (runL (repL u (ts (lt S) (last + 1))) S) 18 = S 18 := run_of _ S 18 (by decide)
      have key := IH b d m (nx (lt S) (last + 1)) q M' (runL (repL u (ts (lt S) (last + 1))) S) P hn9 hd hm (by rw [e18]; omega) hq (by rw [e18]; exact g1) hM' (run_gI _ S hg)
      rw [el] at key
      exact key hr kk
    · rw [hN] at h0 hM'
      rw [if_neg h0, if_neg h0] at kk
      have := kk M' hM'
      rw [decide_eq_false h0] at this
      exact this
  unfold wb_X4_go_27
  rw [i_s]
  refine ⟨h.isc, b_letter h hL (by omega) (b_isIn ⟨fun z => ?_, fun z => ?_⟩)⟩
  · rw [z]
    have z2 := bI0.mp z
    refine tl 0 1 ?_ (by omega) ?_
    · unfold ts; rw [z2]; rfl
    · rw [if_pos rfl, i_s]
      unfold nx; rw [z2]; rfl
  · have z2 := bI1.mp z
    have hin : last + 1 < nn (S 18 0 0 0) := by
      refine lt_in (S := S) (x := lt S (last + 1)) rfl fun y => ?_
      rw [y] at z2
      exact absurd z2 (by decide)
    have hx : vp_in (Int32.ofNat (last + 1)) 60 := i_vp (by omega) (by omega)
    refine b_gfa h (by decide) (b_ld1 h (by decide) hx ?_)
    rw [show (Int32.ofNat (last + 1)).toNatClampNeg = last + 1 from i_nn (by omega), ← lt_on hin]
    obtain ⟨t1, t2⟩ := ts_b z2
    rw [t1]
    refine tl _ _ ?_ t2 ?_
    · unfold ts; rw [if_pos z2]
    · rw [if_neg z]
      unfold nx
      rw [if_pos z2, ← i_s (last + 1), ← i_s last, Int32.add_assoc]
      rfl
theorem b_go2 : ∀ n, goOk G am ad n
  | 0 => fun b d m p q M S P _ _ _ hpn _ hp => absurd hpn (by omega)
  | n + 1 => fun b d m p q M S P hn9 hd hm hpn hq hp h hg hr kk => by
    have hL := hg.1
    have hle : nn (S 18 0 0 0) ≤ 60 := i_nle (bIn_t hL).1 (bIn_t hL).2
    obtain ⟨q, rfl⟩ : ∃ q', q = q' + 1 := ⟨q - 1, by omega⟩
    have IH := b_go2 n
    by_cases hi : itemB (lt S p) = true
    · have hlt := it_on hi
      have hx : vp_in (Int32.ofNat p) 60 := i_vp (by omega) (by omega)
      have ep : (Int32.ofNat p).toNatClampNeg = p := i_nn (by omega)
      rw [show rdL (lt S) (n + 1) d p = rdI (lt S) (n + 1) d p by unfold rdL; rw [if_pos hi]] at hr kk ⊢
      have ex : rdI (lt S) (n + 1) d p = (if lt S p = 40 then (if d = 4 then (2, p, []) else if (rdI (lt S) n (d + 1) (p + 1)).1 = 0 then (if lt S (rdI (lt S) n (d + 1) (p + 1)).2.1 = 41 then rdT (lt S) (rdI (lt S) n d) ((rdI (lt S) n (d + 1) (p + 1)).2.1 + 1) (rdI (lt S) n (d + 1) (p + 1)).2.2 else (1, (rdI (lt S) n (d + 1) (p + 1)).2.1, [])) else rdI (lt S) n (d + 1) (p + 1)) else rdT (lt S) (rdI (lt S) n d) (p + 1) [(lt S p, p)]) := by
        show (if itemB (lt S p) = true then _ else _) = _
        rw [if_pos hi]
      rw [ex] at hr kk ⊢
      by_cases z : lt S p = 40
      · rw [if_pos z] at hr kk ⊢
        by_cases d4 : d = 4
        · rw [if_pos d4] at hr
          exact absurd hr (by show ¬ (2 : Int32) = 0; decide)
        rw [if_neg d4] at hr kk ⊢
        by_cases r0 : (rdI (lt S) n (d + 1) (p + 1)).1 = 0
        case neg => rw [if_neg r0] at hr; exact absurd hr r0
        rw [if_pos r0] at hr kk ⊢
        by_cases y : lt S (rdI (lt S) n (d + 1) (p + 1)).2.1 = 41
        case neg => rw [if_neg y] at hr; exact absurd hr (by show ¬ (1 : Int32) = 0; decide)
        rw [if_pos y] at hr kk ⊢
        obtain ⟨r1, r2⟩ := rdI_le (S := S) n (d + 1) (p + 1) (by omega)
        have hlast := lt_in y (by decide)
        rw [rdT_3 _ _ _ _ _ hr] at kk
        rw [rdT_1] at hr
        rw [rdT_2]
        obtain ⟨l1, l2⟩ := nx_le (S := S) (q := (rdI (lt S) n (d + 1) (p + 1)).2.1 + 1) (by omega)
        obtain ⟨l3, l4⟩ := rdL_le (S := S) (n := n) (d := d) l1
        have hne : ¬ Int32.ofNat (rdI (lt S) n (d + 1) (p + 1)).2.1 = Int32.ofNat p := fun w => by
          have := congrArg nn w
          rw [i_nn (by omega), i_nn (by omega)] at this
          omega
        have hi1 : itemB (lt S (p + 1)) = true := by
          cases hh : itemB (lt S (p + 1)) with
          | true => rfl
          | false => rw [rdI_no hh] at r0; exact absurd r0 (by show ¬ (1 : Int32) = 0; decide)
        have eL : rdL (lt S) n (d + 1) (p + 1) = rdI (lt S) n (d + 1) (p + 1) := by unfold rdL; rw [if_pos hi1]
        have un : unOk am ad S (rdI (lt S) n (d + 1) (p + 1)).2.2 fun K M => wR_X4_go m G 0 K M am (Int32.ofNat p + 1) (Int32.ofNat (rdI (lt S) n (d + 1) (p + 1)).2.1) := by
          intro K M2 S2 h2 hg2 ht2 k2
          obtain ⟨m, rfl⟩ : ∃ m', m = m' + 1 := ⟨m - 1, by omega⟩
          show wp_X4_go (wR_X4_go m) G 0 K M2 am (Int32.ofNat p + 1) _
          unfold wp_X4_go
          rw [i_s]
          have e18 : nn (S2 18 0 0 0) = nn (S 18 0 0 0) := by rw [ht2.1]
          have elt : lt S2 = lt S := by
            funext k
            unfold lt
            rw [ht2.1, ht2.2]
          have key := IH 0 (d + 1) m (p + 1) (n + 1) M2 S2 K (by omega) (by omega) (by omega) (by rw [e18]; omega) (by omega) (by rw [e18]; omega) h2 hg2
          rw [elt, eL] at key
          exact ⟨_, key r0 k2⟩
        have key := b_go27 IH (b := b) (p := p) (q := q) (P := P) (last := (rdI (lt S) n (d + 1) (p + 1)).2.1) (by omega) hd hm (by omega) (by omega) hlast h hg (fun _ => un) (fun w => absurd w hne) hr kk
        unfold wl_X4_go_2
        refine ⟨fun w => absurd ((i_le (by omega) (by omega)).mp w) (by omega), fun _ => b_gfa h (by decide) (b_ld1 h (by decide) hx ?_)⟩
        rw [ep, ← lt_on hlt]
        exact ⟨fun w => absurd z w, fun _ => ⟨h.isc, b_closing h hL (by omega) z r0 y key⟩⟩
      · rw [if_neg z] at hr kk ⊢
        rw [rdT_3 _ _ _ _ _ hr] at kk
        rw [rdT_1] at hr
        rw [rdT_2]
        obtain ⟨l1, l2⟩ := nx_le (S := S) (q := p + 1) (by omega)
        obtain ⟨l3, l4⟩ := rdL_le (S := S) (n := n) (d := d) l1
        have un : unOk am ad S [(lt S p, p)] fun K M => wp_X4_step G 0 K M am (Int32.ofNat p) := by
          intro K M2 S2 h2 hg2 ht2 k2
          have e18 : nn (S2 18 0 0 0) = nn (S 18 0 0 0) := by rw [ht2.1]
          have elt : lt S2 = lt S := by
            funext k
            unfold lt
            rw [ht2.1, ht2.2]
          rw [(run_1 _ _ _).1, (run_1 _ _ _).2] at k2
          refine b_step h2 hg2.1 hg2.2.1 hg2.2.2 (p := p) (by rw [e18]; exact hlt) ?_
          rw [elt]
          exact k2
        have key := b_go27 IH (b := b) (p := p) (q := q) (P := P) (last := p) (by omega) hd hm (by omega) (by omega) hlt h hg (fun w => absurd rfl w) (fun _ => un) hr kk
        unfold wl_X4_go_2
        refine ⟨fun w => absurd ((i_le (by omega) (by omega)).mp w) (by omega), fun _ => b_gfa h (by decide) (b_ld1 h (by decide) hx ?_)⟩
        rw [ep, ← lt_on hlt]
        exact ⟨fun _ => key, fun w => absurd w z⟩
    · have eL : rdL (lt S) (n + 1) d p = (0, p, []) := by unfold rdL; rw [if_neg hi]
      rw [eL] at kk ⊢
      unfold wl_X4_go_2
      exact ⟨fun _ => ⟨rfl, kk M h⟩, fun w => absurd (Int32.le_refl _) w⟩
/-- go, from a place on, in the brackets -/
theorem b_go {b p n : Nat} {M : mM} {S : bS} {P : Int32 → mM → Prop} (hn : n < 900) (hpn : nn (S 18 0 0 0) < p + n) (hp : p ≤ nn (S 18 0 0 0)) (h : bM M am ad S) (hg : gI S) (hr : (rdI (lt S) n 0 p).1 = 0) (kk : ∀ M', bM M' am ad (runL (rdI (lt S) n 0 p).2.2 S) → P (bI (decide (runE (rdI (lt S) n 0 p).2.2 S = 0))) M') : wr_X4_go 7 G b P M am (Int32.ofNat p) (Int32.ofNat (rdI (lt S) n 0 p).2.1) := by
  show wp_X4_go (wR_X4_go 6) G b P M am _ _
  unfold wp_X4_go
  have hi1 : itemB (lt S p) = true := by
    cases hh : itemB (lt S p) with
    | true => rfl
    | false => rw [rdI_no hh] at hr; exact absurd hr (by show ¬ (1 : Int32) = 0; decide)
  have eL : rdL (lt S) n 0 p = rdI (lt S) n 0 p := by unfold rdL; rw [if_pos hi1]
  have key := b_go2 (G := G) (am := am) (ad := ad) n b 0 6 p (n + 1) M S P hn (by omega) (by omega) hpn (by omega) hp h hg
  rw [eL] at key
  exact ⟨_, key hr kk⟩
end B66
