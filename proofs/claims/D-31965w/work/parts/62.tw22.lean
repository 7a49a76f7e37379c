/-! THE TWIN's read: the walk -/
theorem sRd_eq {S S' : bS} {r r' : bRr} (h1 : r.1 = r'.1) (h2 : r.2.1 = r'.2.1) (hS : ∀ x, bU S 19 0 0 0 x = bU S' 19 0 0 0 x) : sRd S r = sRd S' r' := by
  unfold sRd
  rw [h1, h2, hS]
theorem rdT_1 (t : Nat → Int32) (n d q : Nat) (fl : List (Int32 × Nat)) : (rdT t (rdI t n d) q fl).1 = (rdL t n d (nx t q)).1 := by
  unfold rdT rdL
  split
  · split
    · next h => exact h.symm
    · rfl
  · rfl
theorem rdT_2 (t : Nat → Int32) (n d q : Nat) (fl : List (Int32 × Nat)) : (rdT t (rdI t n d) q fl).2.1 = (rdL t n d (nx t q)).2.1 := by
  unfold rdT rdL
  split
  · split <;> rfl
  · rfl
section B62
variable {G : mG} {am : Nat} {ad : bA}
/-- what the loop of read does, for a fuel of the parser -/
def rdOk (G : mG) (am : Nat) (ad : bA) (n : Nat) : Prop := ∀ (b d m p q : Nat) (M : mM) (S : bS) (P : Int32 → mM → Prop), d ≤ 4 → m + d = 6 → nn (S 18 0 0 0) < p + n → n < q → p ≤ nn (S 18 0 0 0) → bM M am ad S → bIn (S 18 0 0 0) 0 60 = true → S 19 0 0 0 = Int32.ofNat p → (∀ M', bM M' am ad (sRd S (rdL (lt S) n d p)) → P (bI (decide ((rdL (lt S) n d p).1 = 0))) M') → wl_X4_read_29 (wR_X4_read m) G P q b M am (Int32.ofNat d)
theorem b_rdR {n : Nat} (hn : rdOk G am ad n) {b d m p : Nat} {M : mM} {S : bS} {P : Int32 → mM → Prop} (hd : d ≤ 4) (hm : m + d = 6) (hpn : nn (S 18 0 0 0) < p + n) (hp : p ≤ nn (S 18 0 0 0)) (h : bM M am ad S) (hL : bIn (S 18 0 0 0) 0 60 = true) (hs : S 19 0 0 0 = Int32.ofNat p) (kk : ∀ M', bM M' am ad (sRd S (rdI (lt S) n d p)) → P (bI (decide ((rdI (lt S) n d p).1 = 0))) M') : wp_X4_read (wR_X4_read m) G b P M am (Int32.ofNat d) := by
  have hle : nn (S 18 0 0 0) ≤ 60 := i_nle (bIn_t hL).1 (bIn_t hL).2
  have hp31 : p < 2 ^ 31 := by omega
  have yes : itemB (lt S p) = true → ∃ n29, wl_X4_read_29 (wR_X4_read m) G P n29 b M am (Int32.ofNat d) := fun hi => by
    refine ⟨n + 1, hn b d m p (n + 1) M S P hd hm hpn (Nat.lt_succ_self _) hp h hL hs ?_⟩
    rw [show rdL (lt S) n d p = rdI (lt S) n d p by unfold rdL; rw [if_pos hi]]
    exact kk
  have no : itemB (lt S p) = false → isc M am 3 ∧ wp_X4_wrong G 0 (fun v9 M8 => narrow .boolean (.int v9) = .int v9 ∧ P v9 M8) M am 1 := fun hi => by
    rw [rdI_no hi] at kk
    refine ⟨h.isc, b_wrong h fun M' hM' => ⟨rfl, kk M' ?_⟩⟩
    unfold sRd
    rw [if_neg (show ¬ (1 : Int32) = 0 by decide), bU_self hs]
    rw [hs] at hM'
    exact hM'
  unfold wp_X4_read
  refine ⟨h.isc, b_is h hL hp31 hs ⟨fun z => yes ?_, fun z => b_gfi h (by decide) ?_⟩⟩
  · unfold itemB; rw [bI1.mp z]; rfl
  · rw [hs]
    refine ⟨h.isc, b_letter h hL hp31 (b_isWay ⟨fun y => yes ?_, fun y => no ?_⟩)⟩
    · unfold itemB; rw [bI1.mp y, Bool.or_true]
    · unfold itemB; rw [bI0.mp z, bI0.mp y]; rfl
/-- behind an item: the digit, and the loop again -/
theorem b_rd130 {n : Nat} (hn : rdOk G am ad n) {b d m p q : Nat} {M : mM} {S : bS} {P : Int32 → mM → Prop} (hd : d ≤ 4) (hm : m + d = 6) (hpn : nn (S 18 0 0 0) < p + n) (hq : n < q) (hp : p ≤ nn (S 18 0 0 0)) (h : bM M am ad S) (hL : bIn (S 18 0 0 0) 0 60 = true) (hs : S 19 0 0 0 = Int32.ofNat p) (kk : ∀ M', bM M' am ad (sRd S (rdL (lt S) n d (nx (lt S) p))) → P (bI (decide ((rdL (lt S) n d (nx (lt S) p)).1 = 0))) M') : wb_X4_read_130 (wR_X4_read m) G P (wl_X4_read_29 (wR_X4_read m) G P q) b M am (Int32.ofNat d) := by
  have hle : nn (S 18 0 0 0) ≤ 60 := i_nle (bIn_t hL).1 (bIn_t hL).2
  have hp31 : p < 2 ^ 31 := by omega
  obtain ⟨g1, g2⟩ := nx_le hp
  unfold wb_X4_read_130 wb_X4_read_158
  refine b_gfi h (by decide) ?_
  rw [hs]
  refine ⟨h.isc, b_letter h hL hp31 (b_isIn ⟨fun z => ?_, fun z => ?_⟩)⟩
  · have e : nx (lt S) p = p := by unfold nx; rw [bI0.mp z]; rfl
    rw [e] at kk
    exact hn b d m p q M S P hd hm hpn hq hp h hL hs kk
  · have e : nx (lt S) p = p + 1 := by unfold nx; rw [bI1.mp z]; rfl
    rw [e] at kk g1
    refine b_gfi h (by decide) (b_pfi h (by decide) fun M' hM' => ?_)
    rw [hs, i_s] at hM'
    refine hn b d m (p + 1) q M' (bU S 19 0 0 0 (Int32.ofNat (p + 1))) P hd hm (by show nn (S 18 0 0 0) < p + 1 + n; omega) hq g1 hM' hL (bU_s _ _ _ _ _ _) ?_
    rw [lt_19, sRd_eq (S := bU S 19 0 0 0 (Int32.ofNat (p + 1))) (S' := S) rfl rfl fun x => bU_bU]
    exact kk
theorem b_rd29 : ∀ n, rdOk G am ad n
  | 0 => fun b d m p q M S P _ _ hpn _ hp => absurd hpn (by omega)
  | n + 1 => fun b d m p q M S P hd hm hpn hq hp h hL hs kk => by
    have hle : nn (S 18 0 0 0) ≤ 60 := i_nle (bIn_t hL).1 (bIn_t hL).2
    have hp31 : p < 2 ^ 31 := by omega
    obtain ⟨q, rfl⟩ : ∃ q', q = q' + 1 := ⟨q - 1, by omega⟩
    have IH := b_rd29 n
    have body : itemB (lt S p) = true → wb_X4_read_52 (wR_X4_read m) G P (wl_X4_read_29 (wR_X4_read m) G P q) b M am (Int32.ofNat d) := fun hi => by
      have hlt := it_on hi
      rw [show rdL (lt S) (n + 1) d p = rdI (lt S) (n + 1) d p by unfold rdL; rw [if_pos hi]] at kk
      have ex : rdI (lt S) (n + 1) d p = (if lt S p = 40 then (if d = 4 then (2, p, []) else if (rdI (lt S) n (d + 1) (p + 1)).1 = 0 then (if lt S (rdI (lt S) n (d + 1) (p + 1)).2.1 = 41 then rdT (lt S) (rdI (lt S) n d) ((rdI (lt S) n (d + 1) (p + 1)).2.1 + 1) (rdI (lt S) n (d + 1) (p + 1)).2.2 else (1, (rdI (lt S) n (d + 1) (p + 1)).2.1, [])) else rdI (lt S) n (d + 1) (p + 1)) else rdT (lt S) (rdI (lt S) n d) (p + 1) [(lt S p, p)]) := by
        show (if itemB (lt S p) = true then _ else _) = _
        rw [if_pos hi]
      rw [ex] at kk
      have b72 : ¬ (lt S p = 40 ∧ d = 4) → wb_X4_read_72 (wR_X4_read m) G P (wl_X4_read_29 (wR_X4_read m) G P q) b M am (Int32.ofNat d) := fun hne => by
        unfold wb_X4_read_72
        refine ⟨h.isc, b_is h hL hp31 hs (b_gfi h (by decide) (b_pfi h (by decide) fun M1 h1 => ?_))⟩
        rw [hs, i_s] at h1
        refine ⟨fun z => ?_, fun z => ⟨h1.isc, ?_⟩⟩
        · have z2 : ¬ lt S p = 40 := of_decide_eq_false (bI0.mp z)
          rw [if_neg z2] at kk
          refine b_rd130 IH (p := p + 1) (S := bU S 19 0 0 0 (Int32.ofNat (p + 1))) hd hm (by show nn (S 18 0 0 0) < p + 1 + n; omega) (by omega) (by show p + 1 ≤ nn (S 18 0 0 0); omega) h1 hL (bU_s _ _ _ _ _ _) ?_
          rw [lt_19, sRd_eq (S := bU S 19 0 0 0 (Int32.ofNat (p + 1))) (S' := S) (r' := rdT (lt S) (rdI (lt S) n d) (p + 1) [(lt S p, p)]) (rdT_1 _ _ _ _ _).symm (rdT_2 _ _ _ _ _).symm (fun x => bU_bU), ← rdT_1 (lt S) n d (p + 1) [(lt S p, p)]]
          exact kk
        · have z2 : lt S p = 40 := of_decide_eq_true (bI1.mp z)
          have hd4 : ¬ d = 4 := fun y => hne ⟨z2, y⟩
          rw [if_pos z2, if_neg hd4] at kk
          obtain ⟨m, rfl⟩ : ∃ m', m = m' + 1 := ⟨m - 1, by omega⟩
          rw [i_s]
          show wp_X4_read (wR_X4_read m) G 0 _ M1 am (Int32.ofNat (d + 1))
          obtain ⟨r1, r2⟩ := rdI_le (S := S) n (d + 1) (p + 1) (by omega)
          refine b_rdR IH (p := p + 1) (S := bU S 19 0 0 0 (Int32.ofNat (p + 1))) (by omega) (by omega) (by show nn (S 18 0 0 0) < p + 1 + n; omega) (by show p + 1 ≤ nn (S 18 0 0 0); omega) h1 hL (bU_s _ _ _ _ _ _) fun M2 h2 => ?_
          rw [lt_19] at h2 ⊢
          refine ⟨fun w => ⟨h2.isc, ?_⟩, fun w => ⟨rfl, ?_⟩⟩
          · have w2 : (rdI (lt S) n (d + 1) (p + 1)).1 = 0 := of_decide_eq_true (bI1.mp w)
            rw [if_pos w2] at kk
            unfold sRd at h2
            rw [if_pos w2, bU_bU] at h2
            have hr31 : (rdI (lt S) n (d + 1) (p + 1)).2.1 < 2 ^ 31 := by omega
            refine b_is h2 hL hr31 (bU_s _ _ _ _ _ _) ⟨fun y => b_gfi h2 (by decide) (b_pfi h2 (by decide) fun M3 h3 => ?_), fun y => ⟨h2.isc, b_wrong h2 fun M3 h3 => ⟨rfl, ?_⟩⟩⟩
            · rw [lt_19] at y
              have y2 := of_decide_eq_true (bI1.mp y)
              rw [if_pos y2] at kk
              rw [bU_s, i_s, bU_bU] at h3
              have hlt2 : (rdI (lt S) n (d + 1) (p + 1)).2.1 < nn (S 18 0 0 0) := by
                refine Nat.not_le.mp fun v => ?_
                rw [lt_off v] at y2
                exact absurd y2 (by decide)
              refine b_rd130 IH (p := (rdI (lt S) n (d + 1) (p + 1)).2.1 + 1) (S := bU S 19 0 0 0 (Int32.ofNat ((rdI (lt S) n (d + 1) (p + 1)).2.1 + 1))) hd hm (by show nn (S 18 0 0 0) < _ + 1 + n; omega) (by omega) (by show _ + 1 ≤ nn (S 18 0 0 0); omega) h3 hL (bU_s _ _ _ _ _ _) ?_
              rw [lt_19, sRd_eq (S := bU S 19 0 0 0 (Int32.ofNat ((rdI (lt S) n (d + 1) (p + 1)).2.1 + 1))) (S' := S) (r' := rdT (lt S) (rdI (lt S) n d) ((rdI (lt S) n (d + 1) (p + 1)).2.1 + 1) (rdI (lt S) n (d + 1) (p + 1)).2.2) (rdT_1 _ _ _ _ _).symm (rdT_2 _ _ _ _ _).symm (fun x => bU_bU), ← rdT_1 (lt S) n d ((rdI (lt S) n (d + 1) (p + 1)).2.1 + 1) (rdI (lt S) n (d + 1) (p + 1)).2.2]
              exact kk
            · rw [lt_19] at y
              have y2 := of_decide_eq_false (bI0.mp y)
              rw [if_neg y2] at kk
              refine kk M3 ?_
              unfold sRd
              rw [if_neg (show ¬ (1 : Int32) = 0 by decide)]
              rw [bU_s] at h3
              exact h3
          · have w2 : ¬ (rdI (lt S) n (d + 1) (p + 1)).1 = 0 := of_decide_eq_false (bI0.mp w)
            rw [if_neg w2, decide_eq_false w2] at kk
            refine kk M2 ?_
            rw [← sRd_eq (S := bU S 19 0 0 0 (Int32.ofNat (p + 1))) (S' := S) (r' := rdI (lt S) n (d + 1) (p + 1)) rfl rfl fun x => bU_bU]
            exact h2
      unfold wb_X4_read_52
      refine ⟨h.isc, b_is h hL hp31 hs ⟨fun z => b72 fun y => ?_, fun z => ⟨fun y => b72 fun y2 => ?_, fun y => ⟨h.isc, b_wrong h fun M' hM' => ⟨rfl, ?_⟩⟩⟩⟩⟩
      · exact absurd y.1 (of_decide_eq_false (bI0.mp z))
      · exact y (by rw [y2.2]; rfl)
      · have z2 : lt S p = 40 := of_decide_eq_true (bI1.mp z)
        have y2 : d = 4 := by
          have := congrArg nn y
          rw [i_nn (by omega)] at this
          exact this
        rw [if_pos z2, if_pos y2] at kk
        refine kk M' ?_
        unfold sRd
        rw [if_neg (show ¬ (2 : Int32) = 0 by decide), bU_self hs]
        rw [hs] at hM'
        exact hM'
    have out : itemB (lt S p) = false → P 1 M := fun hi => by
      rw [show rdL (lt S) (n + 1) d p = (0, p, []) by unfold rdL; rw [hi]; rfl] at kk
      refine kk M ?_
      unfold sRd
      rw [if_pos rfl, bU_self hs]
      exact h
    unfold wl_X4_read_29
    refine ⟨h.isc, b_is h hL hp31 hs ⟨fun z => body ?_, fun z => b_gfi h (by decide) ?_⟩⟩
    · unfold itemB; rw [bI1.mp z]; rfl
    · rw [hs]
      refine ⟨h.isc, b_letter h hL hp31 (b_isWay ⟨fun y => ⟨rfl, out ?_⟩, fun y => body ?_⟩)⟩
      · unfold itemB; rw [bI0.mp z, bI0.mp y]; rfl
      · unfold itemB; rw [bI1.mp y, Bool.or_true]
end B62
