/-! THE CLASS's route, whole -/
def eRtX (X : bS) (x : Int32) : Int32 := bE (!bIn x 0 35) (decide (X 24 0 0 0 = 8)) false
section B9891
variable {G : mG} {b : Nat} {κ : xK} {M : mM} {ad : xA} {X : bS} {bv : Nat} {ic : Nat → Nat}
theorem xTx0_f {X : bS} {g : Nat} (h : g ∉ [18, 70, 71, 72]) : xTx0 X g = X g := xTxt_f h
theorem x_rfin {P : Int32 → mM → Prop} {Xx : String → Nat → mM → Prop} {e v c : Nat} {code place : Int32} (hc : c = 7 ∨ c = 10) (h : rX κ M ad X) (he : ∃ fs, M e = some (true, .inr (12, fs)) ∧ fs[0]? = some (.ref v)) (ve : v ≠ e) (hv : ∃ fs, M v = some (true, .inr (c, fs)) ∧ fs[0]? = some (.int code) ∧ fs[1]? = some (.int place)) (oe : xO κ ad X e) (ov : xO κ ad X v) (kk : ∀ M', rX κ M' ad (bU (bU X 20 0 0 0 code) 21 0 0 0 place) → P (-1) M') : wb_X1_route_65 G P Xx b M κ.2.2.1 e := by
  obtain ⟨fs, e1, e2⟩ := he
  obtain ⟨fv, v1, v2, v3⟩ := hv
  have go2 : ∀ M1, rX κ M1 ad (bU X 20 0 0 0 code) → (∀ a, xO κ ad X a → M1 a = M a) → isc M1 e 12 ∧ (wp_X15_fault G 0 (fun u31 M30 => (gfi M30 u31 7 1 fun v32 => pfi M30 κ.2.2.1 0 14 v32 fun M33 => P (-1) M33) ∨ (gfi M30 u31 10 1 fun v34 => pfi M30 κ.2.2.1 0 14 v34 fun M35 => P (-1) M35)) M1 e) := fun M1 h1 o1 => by
    have e1' : M1 e = some (true, .inr (12, fs)) := (o1 e oe).trans e1
    have v1' : M1 v = some (true, .inr (c, fv)) := (o1 v ov).trans v1
    unfold wp_X15_fault
    refine ⟨isc_ e1', fs, v, e1', e2, ve, ?_, ?_⟩
    · rcases hc with rfl | rfl
      · exact Or.inl (isc_ v1')
      · exact Or.inr (isc_ v1')
    · have fin : pfi M1 κ.2.2.1 0 14 place fun M33 => P (-1) M33 := x_pmain h1 (Or.inr (Or.inl ⟨rfl, rfl⟩)) fun M2 h2 _ => kk M2 h2
      rcases hc with rfl | rfl
      · exact Or.inl (gfi_ v1' v3 fin)
      · exact Or.inr (gfi_ v1' v3 fin)
  unfold wb_X1_route_65
  refine ⟨isc_ e1, ?_⟩
  unfold wp_X15_fault
  refine ⟨fs, v, e1, e2, ve, ?_, ?_⟩
  · rcases hc with rfl | rfl
    · exact Or.inl (isc_ v1)
    · exact Or.inr (isc_ v1)
  · rcases hc with rfl | rfl
    · exact Or.inl (gfi_ v1 v2 (x_pmain h (Or.inl ⟨rfl, rfl⟩) fun M1 h1 o1 => go2 M1 h1 o1))
    · exact Or.inr (gfi_ v1 v2 (x_pmain h (Or.inl ⟨rfl, rfl⟩) fun M1 h1 o1 => go2 M1 h1 o1))
theorem x0_route (h : rX κ M ad X) (hI : xI X) (hG : κ.2.1 = G.2.2 0) (hT : tI X) (hC : kC κ G bv ic) (h8 : bIn (X 24 0 0 0) 0 8 = true) (hO : tOk (nn (X 18 0 0 0)) fun p => X 70 p 0 0) {T : bS} (hS : sgT (nn (X 18 0 0 0)) (fun p => X 70 p 0 0) T) (h24 : T 24 0 0 0 = X 24 0 0 0) (h18 : bIn (T 18 0 0 0) 0 60 = true) {x : Int32} {K : Int32 → mM → Prop} (hb : 9400 ≤ b)
    (k0 : ¬ eRtX X x = 0 → ∀ M', rX κ M' ad X → K (eRtX X x) M')
    (k1 : eRtX X x = 0 → eIsR T x = 0 → ∀ M' ad' X' f', rX κ M' ad' X' → xI X' → tI X' → xE (bU (bU (xRou (xTx0 X) (nn (sIsR T x 23 (nn (T 24 0 0 0)) 0 0)) f') 20 0 0 0 0) 21 0 0 0 (-1)) X' → (∀ j, j < nn (sIsR T x 23 (nn (T 24 0 0 0)) 0 0) → f' j = sIsR T x 26 (nn (T 24 0 0 0)) j 0) → xOut κ M' (X 24 0 0 0).toInt64 → K 0 M')
    (k2 : eRtX X x = 0 → ¬ eIsR T x = 0 → ∀ M' ad', rX κ M' ad' (bU (bU (xTx0 X) 20 0 0 0 (eIsR T x)) 21 0 0 0 (sIsR T x 21 0 0 0)) → tI (xTx0 X) → xOut κ M' (-1 : Int32).toInt64 → K 0 M') : wp_X0_route G b K M κ.2.2.1 x κ.2.2.2 := by
  have hL : 1 < 4 + xN X 3 := by omega
  unfold wp_X0_route wp_X1_route wb_X1_route_25 wb_X0_route_12 wb_X0_route_15
  refine ⟨h.isc, b, 0, rfl, 7, b - 7, by omega, x_cix (m := 35) (by decide) (by decide) (by omega) (fun z1 => gfa_ h.main rfl ⟨isc_ (h.list hL), x_size h hL ⟨fun z => ⟨7, b - 7 - 7, by omega, x_cst (by omega) (fun w => absurd rfl w) fun _ q => Or.inl ⟨rfl, ?_⟩⟩, fun z => ⟨7, b - 7 - 7, by omega, x_cst (by omega) (fun _ => ?_) fun w => absurd w (by decide)⟩⟩⟩) fun z1 q => Or.inr ⟨rfl, ?_⟩⟩
  · have z6 : X 24 0 0 0 = 8 := Int32.le_antisymm (bIn_t h8).2 z
    have e : eRtX X x = 2 := by
      unfold eRtX
      rw [z1, decide_eq_true z6]; rfl
    have := k0 (by rw [e]; decide) M h
    rw [e] at this
    exact this
  · have z6 : ¬ X 24 0 0 0 = 8 := fun y => z (by show (8 : Int32) ≤ X 24 0 0 0; rw [y]; decide)
    have e : eRtX X x = 0 := by
      unfold eRtX
      rw [z1, decide_eq_false z6]; rfl
    have hn8 : xN X 1 < 8 := by
      have h9 : nn (X 24 0 0 0) ≤ 8 := i_nle (bIn_t h8).1 (bIn_t h8).2
      have h8' : ¬ nn (X 24 0 0 0) = 8 := fun y => z6 (by rw [i_of (bIn_t h8).1, y]; rfl)
      show nn (X 24 0 0 0) < 8
      omega
    have v24 : vp_in (T 24 0 0 0) 8 := by
      rw [h24, i_of (bIn_t h8).1]
      exact i_vp (nn_lt _) hn8
    have hx : vp_in x 36 := bIn_v z1 (by decide)
    have hr := k1 e
    have hr2 := k2 e
    refine gfa_ h.main rfl ⟨h.isc, 8700, b - 7 - 7 - 8700, by omega, x_readRoute h hT hC hO hS hx v24 h18 (Nat.le_refl _) (fun e0 M1 ad1 u arr f' h1 hT1 a1 a2 a3 a31 ou oarr ea => ?_) fun e0 M1 ad1 ex v c hc h1 hT1 he ve hv oe ov => ⟨rfl, ?_, ?_⟩⟩
    · have hI1 : xI (xTx0 X) := xI_of hI fun f hf => xTx0_f (by simp only [List.mem_cons, List.not_mem_nil, or_false] at hf ⊢; omega)
      have hN1 : ∀ L, xN (xTx0 X) L = xN X L := xN_of fun f hf => xTx0_f (by simp only [List.mem_cons, List.not_mem_nil, or_false] at hf ⊢; omega)
      have hL1 : 1 < 4 + xN (xTx0 X) 3 := by omega
      rw [← ea 22 1 0]
      refine ⟨isc_ (h1.list hL1), 310, b - 7 - 7 - 8700 - 310, by omega, x_pushR (G := G) h1 hI1 hG hC.2.2 (by rw [hN1]; exact hn8) (n := nn (sIsR T x 23 (nn (T 24 0 0 0)) 0 0)) (p := f') a31 a1 a2 ou oarr (Nat.le_refl _) fun M2 ad2 X2 h2 hI2 hE2 => ?_⟩
      · refine x_pmain h2 (Or.inl ⟨rfl, rfl⟩) fun M3 h3 _ => x_pmain h3 (Or.inr (Or.inl ⟨rfl, rfl⟩)) fun M4 h4 _ => ?_
        have hI4 := xI_U (xI_U hI2 (f := 20) (i := 0) (j := 0) (k := 0) (x := 0) (by decide)) (f := 21) (i := 0) (j := 0) (k := 0) (x := -1) (by decide)
        have hL4 : 1 < 4 + xN (bU (bU X2 20 0 0 0 0) 21 0 0 0 (-1)) 3 := by omega
        refine gfa_ h4.main rfl ⟨isc_ (h4.list hL4), x_size h4 hL4 ?_⟩
        have e24 : xZ (bU (bU X2 20 0 0 0 0) 21 0 0 0 (-1)) 1 - 1 = X 24 0 0 0 := by
          show bU (bU X2 20 0 0 0 0) 21 0 0 0 (-1) 24 0 0 0 - 1 = _
          rw [bU_f (by decide), bU_f (by decide), hE2 24 (by decide) (by decide)]
          unfold xRou
          rw [if_neg fun z => absurd z.1 (by decide), if_neg fun z => absurd z.1 (by decide), if_pos rfl, xTx0_f (by decide)]
          exact Int32.add_sub_cancel _ _
        rw [e24]
        refine x_out h4 fun M' h' ho => hr e0 M' ad2 _ f' h' hI4 ?_ (fun g g1 g2 => ?_) a3 ho
        · have f2 : ∀ g, g ∈ [18, 70, 71, 72] → bU (bU X2 20 0 0 0 0) 21 0 0 0 (-1) g = xTx0 X g := fun g hg => by
            simp only [List.mem_cons, List.not_mem_nil, or_false] at hg
            rw [bU_ff (by omega), bU_ff (by omega), hE2 g (by omega) (by omega), xRou_f (by omega)]
          obtain ⟨t1, t2, t3, t4, t5⟩ := hT1
          unfold tI
          rw [f2 18 (by decide), f2 71 (by decide), f2 72 (by decide), f2 70 (by decide)]
          exact ⟨t1, t2, t3, t4, t5⟩
        · show bU (bU X2 20 0 0 0 0) 21 0 0 0 (-1) g = bU (bU (xRou (xTx0 X) _ f') 20 0 0 0 0) 21 0 0 0 (-1) g
          by_cases y1 : g = 21
          · subst y1
            funext i j k
            unfold bU
            rw [if_neg (c := (21 : Nat) = 20 ∧ i = 0 ∧ j = 0 ∧ k = 0) (by omega), if_neg (c := (21 : Nat) = 20 ∧ i = 0 ∧ j = 0 ∧ k = 0) (by omega), hE2 21 (by decide) (by decide)]
          · rw [bU_ff y1, bU_ff y1]
            by_cases y2 : g = 20
            · subst y2
              funext i j k
              unfold bU
              rw [hE2 20 (by decide) (by decide)]
            · rw [bU_ff y2, bU_ff y2]
              exact hE2 g g1 g2
    · obtain ⟨fs, y, -⟩ := he
      exact isc_ y
    · exact x_rfin hc h1 he ve hv oe ov fun M2 h2 => x_out h2 fun M' h' ho => hr2 e0 M' ad1 h' hT1 ho
  · have e : eRtX X x = 1 := by
      unfold eRtX
      rw [z1]; rfl
    have := k0 (by rw [e]; decide) M h
    rw [e] at this
    exact this
end B9891
