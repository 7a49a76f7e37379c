/-! THE CLASS's readRoute -/
theorem runN_b : ∀ (u : List (Int32 × Nat)) (S : bS), gI S → runN u S + nn (S 23 (nn (S 24 0 0 0)) 0 0) ≤ 32
  | [], S, h => by
    have := i_nle (bIn_t h.2.2).1 (bIn_t h.2.2).2
    have e : nn (31 : Int32) = 31 := rfl
    show 0 + _ ≤ 32
    omega
  | x :: u, S, h => by
    have h31 := i_nle (bIn_t h.2.2).1 (bIn_t h.2.2).2
    have e31 : nn (31 : Int32) = 31 := rfl
    have e23 : S 23 (nn (S 24 0 0 0)) 0 0 = Int32.ofNat (nn (S 23 (nn (S 24 0 0 0)) 0 0)) := i_of (bIn_t h.2.2).1
    show (if eSt S x.1 = 0 then runN u (sStp S x.1 x.2) + 1 else 1) + _ ≤ 32
    by_cases z : eSt S x.1 = 0
    · rw [if_pos z]
      have hg : gI (sStp S x.1 x.2) := by
        have := run_gI [x] S h
        have e : runL [x] S = sStp S x.1 x.2 := by
          show (if eSt S x.1 = 0 then runL [] (sStp S x.1 x.2) else sStp S x.1 x.2) = _
          rw [if_pos z]
          rfl
        rw [e] at this
        exact this
      have ih := runN_b u (sStp S x.1 x.2) hg
      have n31 : ¬ S 23 (nn (S 24 0 0 0)) 0 0 = 31 := fun y => by
        unfold eSt at z
        rw [if_pos y] at z
        exact absurd z (by decide)
      have lt31 : ¬ nn (S 23 (nn (S 24 0 0 0)) 0 0) = 31 := fun y => n31 (by rw [e23, y]; rfl)
      have eP : sStp S x.1 x.2 = bU (sStO S x.1) 19 0 0 0 (Int32.ofNat x.2) := by unfold sStp; rw [if_pos z]
      have p24 : sStp S x.1 x.2 24 0 0 0 = S 24 0 0 0 := by
        rw [eP]; unfold sStO
        rw [bU_f (by decide), bU_f (by decide), bU_f (by decide), bU_f (by decide)]
      have p23 : sStp S x.1 x.2 23 (nn (S 24 0 0 0)) 0 0 = S 23 (nn (S 24 0 0 0)) 0 0 + 1 := by
        rw [eP]; unfold sStO
        rw [bU_f (by decide), bU_f (by decide), bU_s]
      have n23 : nn (sStp S x.1 x.2 23 (nn (S 24 0 0 0)) 0 0) = nn (S 23 (nn (S 24 0 0 0)) 0 0) + 1 := by
        rw [p23, e23, i_s, i_nn (by omega), i_nn (by omega)]
      rw [p24, n23] at ih
      omega
    · rw [if_neg z]
      omega
/-- the constants that a route needs -/
def kC (κ : xK) (G : mG) (bv : Nat) (ic : Nat → Nat) : Prop := kS G bv κ.1 ∧ kI G ic κ.1 ∧ κ.1 (G.2.2 0) = some (false, .inl (5, 0, mRs fun _ => none))
/-- the text emptied -/
def xTx0 (X : bS) : bS := xTxt X (fun p => X 70 p 0 0) (nn (X 71 0 0 0)) 0 (if nn (X 18 0 0 0) = 0 then X 72 0 0 0 else 1)
section B988
variable {G : mG} {κ : xK} {ad : xA} {X : bS} {bv : Nat} {ic : Nat → Nat}
theorem xo_some {M : mM} (h : rX κ M ad X) {a : Nat} (ha : ¬ xO κ ad X a) : M a ≠ none := fun z => ha (h.fresh z)
/-- the text is emptied, whatever else is there -/
theorem x_txt0 {b : Nat} {M : mM} {P : mM → Prop} (h : rX κ M ad X) (hT : tI X) (kk : ∀ M' ad', rX κ M' ad' (xTx0 X) → tI (xTx0 X) → (∀ a, a ≠ ad 12 0 0 → M' a = M a) → (∀ t i j, ad' t i j = ad t i j) → P M') : wp_J4_setLength G b P M (ad 12 0 0) 0 := by
  have hB := h.textB hT
  refine r_setLen hB fun M' h' ho => ?_
  have hX := h.text h' (Or.inl rfl) fun a h1 _ => ho a h1
  obtain ⟨t1, t2, t3, t4, t5⟩ := hT
  refine kk M' _ hX ⟨by show bIn (Int32.ofNat 0) 0 60 = true; decide, Nat.zero_le _, ?_, ?_, t5⟩ ho fun t i j => ?_
  · show Int32.ofNat (nn (X 71 0 0 0)) = 16 ∨ Int32.ofNat (nn (X 71 0 0 0)) = 34 ∨ Int32.ofNat (nn (X 71 0 0 0)) = 70
    rcases t3 with e | e | e <;> rw [e]
    · exact Or.inl rfl
    · exact Or.inr (Or.inl rfl)
    · exact Or.inr (Or.inr rfl)
  · show (if nn (X 18 0 0 0) = 0 then X 72 0 0 0 else 1) = 0 ∨ (if nn (X 18 0 0 0) = 0 then X 72 0 0 0 else 1) = 1
    split
    · exact t4
    · exact Or.inr rfl
  · show (if t = 29 ∧ i = 0 ∧ j = 0 then ad 29 0 0 else ad t i j) = _
    split
    · next z => obtain ⟨rfl, rfl, rfl⟩ := z; rfl
    · rfl
/-- a route that fails: an exception with its cause -/
theorem x_rex {b : Nat} {M M0 : mM} {P : Nat → mM → Prop} {Xx : String → Nat → mM → Prop} {v c : Nat} {code place : Int32} (hc : c = 7 ∨ c = 10) (h : rX κ M ad X) (hT : tI X) (hv : ∃ fs, M v = some (true, .inr (c, fs)) ∧ fs[0]? = some (.int code) ∧ fs[1]? = some (.int place)) (ov : xO κ ad X v) (hb : 7 ≤ b)
    (bad : ∀ M' ad' e, rX κ M' ad' (xTx0 X) → tI (xTx0 X) → (∃ fs, M' e = some (true, .inr (12, fs)) ∧ fs[0]? = some (.ref v)) → v ≠ e → (∃ fs, M' v = some (true, .inr (c, fs)) ∧ fs[0]? = some (.int code) ∧ fs[1]? = some (.int place)) → xO κ ad' (xTx0 X) e → xO κ ad' (xTx0 X) v → Xx "Hidecount$RouteException" e M') : wb_X1_readRoute_56 G P Xx b M κ.2.2.1 v := by
  unfold wb_X1_readRoute_56 wb_X1_readRoute_66
  refine ⟨by omega, fun e he => ?_⟩
  have fe := he e (Nat.le_refl _)
  have oe := h.fresh fe
  obtain ⟨fs, v1, v2, v3⟩ := hv
  have ve : v ≠ e := fun z => by rw [z, fe] at v1; cases v1
  unfold wp_X15_init wp_J8_init_3_X15 wp_J7_init_3_X15 wb_J7_init_3_X15_60
  refine ⟨_, mset_s _ _ _, Nat.le_of_ble_eq_true rfl, ?_⟩
  rw [mset_mset]
  intro o2
  refine ⟨_, mset_s _ _ _, Nat.le_of_ble_eq_true rfl, ?_⟩
  rw [mset_mset]
  intro o4
  refine ⟨_, mset_s _ _ _, Nat.le_of_ble_eq_true rfl, ?_⟩
  rw [mset_mset]
  refine ⟨fun _ => ?_, fun y => absurd rfl y⟩
  refine ⟨_, mset_s _ _ _, Nat.le_of_ble_eq_true rfl, ?_⟩
  rw [mset_mset]
  refine ⟨_, mset_s _ _ _, Nat.le_of_ble_eq_true rfl, ?_⟩
  rw [mset_mset]
  refine ⟨_, mset_s _ _ _, Nat.le_of_ble_eq_true rfl, ?_⟩
  rw [mset_mset]
  refine ⟨fun y => absurd rfl y, fun _ => ?_⟩
  refine ⟨_, mset_s _ _ _, Nat.le_of_ble_eq_true rfl, ?_⟩
  rw [mset_mset]
  refine ⟨⟨_, mset_s _ _ _⟩, ?_⟩
  have h1 := h.oth oe (.inr (12, List.set (List.set (List.set (List.set (List.set (List.set (List.set dfsX15 0 (va_rf (some e))) 1 (va_rf o2)) 2 (va_rf o4)) 1 (va_rf none)) 3 (va_rf none)) 0 (va_rf (some v))) 2 (va_rf none)))
  have hB1 := h1.textB hT
  refine gfa_ h1.main rfl ⟨isc_ hB1.1, b - (6 + 1), 0, rfl, x_txt0 h1 hT fun M2 ad2 h2 hT2 o2' ea => ?_⟩
  have en : e ≠ ad 12 0 0 := Ne.symm (oe.1 _ _ _ (xl0 (by decide)))
  have vn : v ≠ ad 12 0 0 := Ne.symm (ov.1 _ _ _ (xl0 (by decide)))
  have e2 : M2 e = _ := (o2' e en).trans (mset_s _ _ _)
  have hL : ∀ t i j, xL (xTx0 X) t i j → xL X t i j := fun t i j hl => (xL_of (fun g hg => xTxt_f (by simp only [List.mem_cons, List.not_mem_nil, or_false] at hg ⊢; omega)) t i j).mp hl
  have ox : ∀ a, xO κ ad X a → xO κ ad2 (xTx0 X) a := fun a ha => ⟨fun t i j hl => by rw [ea]; exact ha.1 t i j (hL t i j hl), ha.2⟩
  exact ⟨⟨_, e2⟩, bad M2 ad2 e h2 hT2 ⟨_, e2, rfl⟩ ve ⟨fs, by rw [o2' v vn, mset_n ve]; exact v1, v2, v3⟩ (ox e oe) (ox v ov)⟩
end B988
