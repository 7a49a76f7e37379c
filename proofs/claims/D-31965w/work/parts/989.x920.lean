/-! THE CLASS's readRoute, whole -/
theorem run_20 : ∀ (u : List (Int32 × Nat)) (S : bS), ¬ runE u S = 0 → runL u S 20 0 0 0 = runE u S
  | [], S, h => absurd rfl h
  | x :: u, S, h => by
    have e1 : runE (x :: u) S = if eSt S x.1 = 0 then runE u (sStp S x.1 x.2) else eSt S x.1 := rfl
    have e2 : runL (x :: u) S = if eSt S x.1 = 0 then runL u (sStp S x.1 x.2) else sStp S x.1 x.2 := rfl
    rw [e1] at h ⊢
    rw [e2]
    by_cases z : eSt S x.1 = 0
    · rw [if_pos z] at h ⊢
      rw [if_pos z]
      exact run_20 u _ h
    · rw [if_neg z, if_neg z]
      unfold sStp
      rw [if_neg z, bU_f (by decide), bU_s]
theorem xC_cls {e : Nat} {ad : xA} {X : bS} {t i j c : Nat} {fs : List Value} (hl : xL X t i j) (h : xC e ad X t i j = .inr (c, fs)) : c ≠ 7 ∧ c ≠ 10 := by
  rcases hl with ⟨h0, -, -⟩ | ⟨rfl, -, -⟩ | ⟨rfl, -, -⟩ | ⟨rfl, -, -⟩ | ⟨rfl, -, -⟩ | ⟨rfl, -, -⟩ | ⟨rfl, -, -⟩ | ⟨rfl, -, -⟩ | ⟨rfl, -, -⟩ | ⟨rfl, -, -⟩
  · simp only [List.mem_cons, List.not_mem_nil, or_false] at h0
    rcases h0 with rfl | rfl | rfl | rfl | rfl | rfl | rfl | rfl | rfl | rfl | rfl <;> (cases h; try exact ⟨by decide, by decide⟩)
  · cases h; exact ⟨by decide, by decide⟩
  · cases h; exact ⟨by decide, by decide⟩
  · cases h; exact ⟨by decide, by decide⟩
  · cases h
  · have h : xEl ad X i j = .inr (c, fs) := h
    unfold xEl at h
    split at h
    · cases h; exact ⟨by decide, by decide⟩
    · split at h
      · cases h; exact ⟨by decide, by decide⟩
      · split at h
        · cases h; exact ⟨by decide, by decide⟩
        · split at h <;> (cases h; exact ⟨by decide, by decide⟩)
  · cases h
  · cases h
  · cases h
  · cases h
section B989
variable {G : mG} {κ : xK} {ad : xA} {X : bS} {bv : Nat} {ic : Nat → Nat}
theorem xO.cls {M : mM} {v c : Nat} {fs : List Value} (h : rX κ M ad X) (hv : M v = some (true, .inr (c, fs))) (hc : c = 7 ∨ c = 10) : xO κ ad X v := by
  refine ⟨fun t i j hl z => ?_, fun z => ?_, fun x z => ?_⟩
  · have := h.at hl
    rw [z, hv] at this
    have e : xC κ.2.1 ad X t i j = .inr (c, fs) := by
      injection this with y
      injection y with y1 y2
      exact y2.symm
    obtain ⟨c7, c10⟩ := xC_cls hl e
    exact hc.elim c7 c10
  · obtain ⟨f, hf⟩ := h.2.2.2.2.1
    rw [← z, hv] at hf
    cases hf
  · have := h.2.2.1 v x z
    rw [hv] at this
    cases this
theorem x_readRoute {b : Nat} {M : mM} {T : bS} {x : Int32} {P : Nat → mM → Prop} {Xx : String → Nat → mM → Prop} (h : rX κ M ad X) (hT : tI X) (hC : kC κ G bv ic) (hO : tOk (nn (X 18 0 0 0)) fun p => X 70 p 0 0) (hS : sgT (nn (X 18 0 0 0)) (fun p => X 70 p 0 0) T) (hx : vp_in x 36) (h24 : vp_in (T 24 0 0 0) 8) (h18 : bIn (T 18 0 0 0) 0 60 = true) (hb : 8700 ≤ b)
    (ok : eIsR T x = 0 → ∀ M' ad' u arr f', rX κ M' ad' (xTx0 X) → tI (xTx0 X) → M' u = some (true, .inr (11, [.ref arr])) → M' arr = some (true, .inl (0, nn (sIsR T x 23 (nn (T 24 0 0 0)) 0 0), mIs f')) → (∀ j, j < nn (sIsR T x 23 (nn (T 24 0 0 0)) 0 0) → f' j = sIsR T x 26 (nn (T 24 0 0 0)) j 0) → nn (sIsR T x 23 (nn (T 24 0 0 0)) 0 0) ≤ 31 → xO κ ad' (xTx0 X) u → xO κ ad' (xTx0 X) arr → (∀ t i j, ad' t i j = ad t i j) → P u M')
    (bad : ¬ eIsR T x = 0 → ∀ M' ad' e v c, (c = 7 ∨ c = 10) → rX κ M' ad' (xTx0 X) → tI (xTx0 X) → (∃ fs, M' e = some (true, .inr (12, fs)) ∧ fs[0]? = some (.ref v)) → v ≠ e → (∃ fs, M' v = some (true, .inr (c, fs)) ∧ fs[0]? = some (.int (eIsR T x)) ∧ fs[1]? = some (.int (sIsR T x 21 0 0 0))) → xO κ ad' (xTx0 X) e → xO κ ad' (xTx0 X) v → Xx "Hidecount$RouteException" e M') : wp_X1_readRoute G b P Xx M κ.2.2.1 x := by
  obtain ⟨cS, cI, cE⟩ := hC
  have cst : ∀ {M' : mM}, rX κ M' ad X → kS G bv M' ∧ kI G ic M' ∧ M' (G.2.2 0) = some (false, .inl (5, 0, mRs fun _ => none)) := fun {M'} h' => ⟨⟨h'.2.2.1 _ _ cS.1, h'.2.2.1 _ _ cS.2⟩, ⟨h'.2.2.1 _ _ cI.1, fun j hj => h'.2.2.1 _ _ (cI.2 j hj)⟩, h'.2.2.1 _ _ cE⟩
  have h60 := hO.1
  unfold wp_X1_readRoute
  refine ⟨by omega, fun ρ hρ => ?_⟩
  have fρ := hρ ρ (Nat.le_refl _)
  have oρ := h.fresh fρ
  have h1 := h.oth oρ (.inr (5, dfsX6))
  have hB1 := h1.textB hT
  refine gfa_ h1.main rfl ⟨isc_ hB1.1, 76, b - (2 + 1) - 76, by omega, r_toStr hB1 (Nat.le_refl _) fun s sv M2 g2 kt2 gf fs2 o2 => ?_⟩
  have h2 : rX κ M2 ad X := h1.more o2
  have ρ2 : M2 ρ = some (true, .inr (5, dfsX6)) := by rw [o2 ρ (by rw [mset_s]; exact fun z => by cases z), mset_s]
  have sρ : s ≠ ρ := fun z => by rw [z, mset_s] at fs2; cases fs2
  unfold wp_X6_init
  refine ⟨_, ρ2, Nat.le_of_ble_eq_true rfl, ?_⟩
  generalize hM3 : mset M2 ρ (.inr (5, List.set dfsX6 0 (va_rf (some s)))) = M3
  have o3 : ∀ a, a ≠ ρ → M3 a = M2 a := fun a ha => by rw [← hM3, mset_n ha]
  have R3 : rdr M3 ρ s 0 := by
    show M3 ρ = _
    rw [← hM3, mset_s]
    rfl
  have h3 : rX κ M3 ad X := by rw [← hM3]; exact h2.oth oρ _
  have svρ : sv ≠ ρ := fun z => by
    have := kt2.2
    rw [z, ρ2] at this
    cases this
  obtain ⟨k1, k2, k3⟩ := cst h3
  have J3 : kJ G bv s sv (nn (X 18 0 0 0)) g2 M3 := ⟨k1, ⟨by rw [o3 s sρ]; exact kt2.1, by rw [o3 sv svρ]; exact kt2.2⟩, k3⟩
  have hO' : tOk (nn (X 18 0 0 0)) g2 := ⟨h60, fun p hp => by
    obtain ⟨m, m0, m1, e⟩ := hO.2 p hp
    exact ⟨m, m0, m1, by rw [gf p hp]; exact e⟩⟩
  have hS' : sgT (nn (X 18 0 0 0)) g2 T := ⟨hS.1, fun p hp => by
    rw [← hS.2 p hp]
    unfold sg
    rw [gf p hp]⟩
  have hr61 : rdI (lt T) 61 0 0 = rdAll T := rfl
  have eA : cAll (nn (X 18 0 0 0)) (rdAll T) = if (rdAll T).1 = 0 then (if nn (T 18 0 0 0) ≤ (rdAll T).2.1 then 0 else 1) else (rdAll T).1 := by
    unfold cAll
    rw [hS.1]
  -- what was there before, and what came
  refine ⟨isc_ R3, 4900, b - (2 + 1) - 76 - 4900, by omega, x_all (T := T) (r := rdAll T) hO' hS' (n := 61) (by omega) hr61 (Nat.le_refl _) J3 R3 (fun h0 M4 u Z i4 z4 o4 c4 => ?_) fun h0 v M4 fv hf o4 => ⟨rfl, ?_, ?_⟩⟩
  · have h4 : rX κ M4 ad X := h3.keep fun a ha => o4 a (xo_some h3 ha) fun z => ha (z ▸ oρ)
    refine ⟨by omega, fun γ hγ => ⟨80, b - (2 + 1) - 76 - 4900 - (1 + 1) - 80, by omega, ?_⟩⟩
    have fγ := hγ γ (Nat.le_refl _)
    have oγ := h4.fresh fγ
    have h5 := h4.oth oγ (.inr (9, dfsX12))
    obtain ⟨k51, k52, k53⟩ := cst h5
    have e0 : (rdAll T).1 = 0 ∧ nn (T 18 0 0 0) ≤ (rdAll T).2.1 := by
      rw [eA] at h0
      by_cases z : (rdAll T).1 = 0
      · rw [if_pos z] at h0
        by_cases y : nn (T 18 0 0 0) ≤ (rdAll T).2.1
        · exact ⟨z, y⟩
        · rw [if_neg y] at h0
          exact absurd h0 (by decide)
      · rw [if_neg z] at h0
        exact absurd h0 z
    have eR : eIsR T x = runE (rdAll T).2.2 (sIs1 T x) := by
      unfold eIsR
      rw [if_pos e0.1, if_pos e0.2]
    have sR : sIsR T x = runL (rdAll T).2.2 (sIs1 T x) := by
      unfold sIsR
      rw [if_pos e0.1, if_pos e0.2]
    have t24 : sIs1 T x 24 0 0 0 = T 24 0 0 0 := by rw [sIs1_of T x 24 (by decide)]
    have s1 : sIs1 T x 23 (nn (sIs1 T x 24 0 0 0)) 0 0 = 1 := by
      rw [t24]
      unfold sIs1 sIs0
      rw [bU_f (f' := 23) (by decide)]
      rw [show (bU T 19 0 0 0 (Int32.ofNat (rdAll T).2.1)) 24 0 0 0 = T 24 0 0 0 from bU_f (by decide), bU_s]
    have s2 : sIs1 T x 26 (nn (sIs1 T x 24 0 0 0)) 0 0 = x := by
      rw [t24]
      unfold sIs1 sIs0
      rw [show (bU T 19 0 0 0 (Int32.ofNat (rdAll T).2.1)) 24 0 0 0 = T 24 0 0 0 from bU_f (by decide), bU_s]
    have s3 : sIs1 T x 25 0 0 0 = x := by
      unfold sIs1 sIs0
      rw [bU_f (by decide), bU_f (by decide), bU_s]
    refine x_gini k52 k53 (mset_s _ _ _) hx ⟨s1, s2, s3⟩ (Nat.le_refl _) fun M6 l ed cap g6 fl fed o6 => ?_
    have uγ : u ≠ γ := fun z => (z4 u (Or.inr rfl)).2 (z ▸ fγ)
    have z6 : ∀ a, Z a ∨ a = u → M6 a = M4 a ∧ a ≠ γ := fun a ha => by
      have ne : a ≠ γ := fun z => (z4 a ha).2 (z ▸ fγ)
      exact ⟨by rw [o6 a (by rw [mset_n ne]; exact (z4 a ha).2) ne, mset_n ne], ne⟩
    have i6 : iB G 5 Z M6 u (rdAll T).2.2 1 := iB.keep (fun a ha => (z6 a (Or.inl ha)).1) (fun _ z => z) _ _ _ _ i4 (z6 u (Or.inr rfl)).1
    obtain ⟨fsu, c4⟩ := c4
    have c6 : M6 u = some (true, .inr (6, fsu)) := by rw [(z6 u (Or.inr rfl)).1]; exact c4
    have fl4 : M4 l = none := by
      have := g6.2.1.cls.1
      obtain ⟨fs, cl⟩ := this
      have lγ : l ≠ γ := fun z => by
        have y := g6.1
        rw [← z, cl] at y
        cases y
      rw [mset_n lγ] at fl
      exact fl
    have fe4 : M4 ed = none := by
      obtain ⟨-, -, n0, f0, ce⟩ := g6.cap
      have eγ : ed ≠ γ := fun z => by
        have y := g6.1
        rw [← z, ce] at y
        cases y
      rw [mset_n eγ] at fed
      exact fed
    have zo6 : zO M6 l ed γ Z u := fun a ha => ⟨by rw [(z6 a ha).1]; exact (z4 a ha).2, fun z => (z4 a ha).2 (z ▸ fl4), fun z => (z4 a ha).2 (z ▸ fe4), (z6 a ha).2⟩
    have h6 : rX κ M6 ad X := h5.keep fun a ha => o6 a (xo_some h5 ha) fun z => ha (z ▸ oγ)
    obtain ⟨k61, k62, k63⟩ := cst h6
    have app : repL (rdAll T).2.2 1 = (rdAll T).2.2 := List.append_nil _
    have hgi : gI (sIs1 T x) := by
      refine ⟨?_, by rw [t24]; exact h24, by rw [s1]; decide⟩
      rw [sIs1_of T x 18 (by decide)]
      exact h18
    have hrn := runN_b (rdAll T).2.2 (sIs1 T x) hgi
    have ol : xO κ ad X l := h4.fresh fl4
    have oe : xO κ ad X ed := h4.fresh fe4
    refine ⟨isc_ c6, 3200, b - (2 + 1) - 76 - 4900 - (1 + 1) - 80 - 3200, by omega, ?_⟩
    have go := goI_5 (G := G) (ic := ic) (γ := γ) (l := l) 3200 ed cap 1 u M6 (sIs1 T x) Z (rdAll T).2.2
    have pick : ∀ {A B : Prop}, ((isc M6 u 8 ∧ A) ∨ (isc M6 u 6 ∧ B)) → B := fun {A B} hh => by
      rcases hh with ⟨⟨w, fs, y⟩, -⟩ | y
      · rw [c6] at y
        cases y
      · exact y.2
    refine pick (go _ _ k62 g6 i6 zo6 (by rw [app]; omega) (fun r0 M7 ed7 cap7 g7 F7 => ?_) fun r0 v M7 ed7 hf F7 => ⟨rfl, ?_, ?_⟩)
    · rw [app] at r0 g7
      rw [← sR] at g7
      have h7 : rX κ M7 ad X := h6.keep fun a ha => F7.2 a (xo_some h6 ha) (fun z => ha (z ▸ ol)) fun z => ha (z ▸ oe)
      have q24 : sIsR T x 24 0 0 0 = T 24 0 0 0 := by rw [sIsR_of T x 24 (by decide)]
      refine ⟨by omega, fun u2 hu2 => ?_⟩
      have fu2 := hu2 u2 (Nat.le_refl _)
      have ou2 := h7.fresh fu2
      have h8 := h7.oth ou2 (.inr (11, dfsX14))
      obtain ⟨-, k82, -⟩ := cst h8
      obtain ⟨p1, p2, p3, p4, p5, p6, p7⟩ := id g7
      obtain ⟨-, ⟨fsl, cl⟩, n0, f0, ce⟩ := g7.cap
      have γ2 : γ ≠ u2 := fun z => by rw [z, fu2] at p1; cases p1
      have l2 : l ≠ u2 := fun z => by rw [z, fu2] at cl; cases cl
      have e2 : ed7 ≠ u2 := fun z => by rw [z, fu2] at ce; cases ce
      rw [q24] at p2 p4 p7
      refine gfa_ (v := l) (by rw [mset_n γ2]; exact p1) rfl ⟨32, b - (2 + 1) - 76 - 4900 - (1 + 1) - 80 - 3200 - (1 + 1) - 32, by omega, x_rini (p := fun i => sIsR T x 26 (nn (T 24 0 0 0)) i 0) (i_nle (bIn_t p4).1 (bIn_t p4).2) p7 k82 (p2.keep (mset_n l2) (mset_n e2)) (mset_s _ _ _) (Nat.le_refl _) fun M9 arr f' fa a1 a2 a3 a4 => ?_⟩
      have oarr : xO κ ad X arr := h8.fresh fa
      have h9 : rX κ M9 ad X := h8.keep fun a ha => a4 a (fun z => ha (z ▸ ou2)) fun z => ha (z ▸ oarr)
      have hB9 := h9.textB hT
      refine gfa_ h9.main rfl ⟨isc_ hB9.1, _, 0, Nat.add_zero _, x_txt0 h9 hT fun M10 ad10 h10 hT10 o10 ea => ?_⟩
      have hL : ∀ t i j, xL (xTx0 X) t i j → xL X t i j := fun t i j hl => (xL_of (fun g hg => xTxt_f (by simp only [List.mem_cons, List.not_mem_nil, or_false] at hg ⊢; omega)) t i j).mp hl
      have ox : ∀ a, xO κ ad X a → xO κ ad10 (xTx0 X) a := fun a ha => ⟨fun t i j hl => by rw [ea]; exact ha.1 t i j (hL t i j hl), ha.2⟩
      exact ok (by rw [eR]; exact r0) M10 ad10 u2 arr f' h10 hT10 (by rw [o10 u2 (Ne.symm (ou2.1 _ _ _ (xl0 (by decide))))]; exact a1) (by rw [o10 arr (Ne.symm (oarr.1 _ _ _ (xl0 (by decide))))]; exact a2) a3 (i_nle (bIn_t p4).1 (bIn_t p4).2) (ox _ ou2) (ox _ oarr) ea
    · obtain ⟨fs, f1, -⟩ := hf
      exact isc_ f1
    · rw [app] at r0 hf
      rw [← sR] at hf
      have h7 : rX κ M7 ad X := h6.keep fun a ha => F7.2 a (xo_some h6 ha) (fun z => ha (z ▸ ol)) fun z => ha (z ▸ oe)
      obtain ⟨fs, f1, f2, f3⟩ := hf
      have e20 : sIsR T x 20 0 0 0 = eIsR T x := by rw [sR, eR]; exact run_20 _ _ r0
      rw [e20] at f2
      exact x_rex (M0 := M7) (Or.inr rfl) h7 hT ⟨fs, f1, f2, f3⟩ (xO.cls h7 f1 (Or.inr rfl)) (by omega) fun M' ad' e q1 q2 q3 q4 q5 q6 q7 => bad (by rw [eR]; exact r0) M' ad' e v 10 (Or.inr rfl) q1 q2 q3 q4 q5 q6 q7
  · obtain ⟨fs, f1, -⟩ := hf
    exact isc_ f1
  · have h4 : rX κ M4 ad X := h3.keep fun a ha => o4 a (xo_some h3 ha) fun z => ha (z ▸ oρ)
    obtain ⟨fs, f1, f2, f3⟩ := hf
    have eq : eIsR T x = cAll (nn (X 18 0 0 0)) (rdAll T) ∧ sIsR T x 21 0 0 0 = Int32.ofNat (rdAll T).2.1 := by
      rw [eA] at h0 ⊢
      unfold eIsR sIsR
      by_cases z : (rdAll T).1 = 0
      · rw [if_pos z] at h0
        by_cases y : nn (T 18 0 0 0) ≤ (rdAll T).2.1
        · rw [if_pos y] at h0
          exact absurd rfl h0
        · rw [if_pos z, if_pos z, if_pos z, if_neg y, if_neg y, if_neg y, bU_s]
          exact ⟨rfl, rfl⟩
      · rw [if_neg z, if_neg z, if_neg z]
        unfold sRd
        rw [if_neg z, bU_s]
        exact ⟨rfl, rfl⟩
    rw [← eq.1] at f2 h0
    rw [← eq.2] at f3
    exact x_rex (M0 := M4) (Or.inl rfl) h4 hT ⟨fs, f1, f2, f3⟩ (xO.cls h4 f1 (Or.inl rfl)) (by omega) fun M' ad' e q1 q2 q3 q4 q5 q6 q7 => bad h0 M' ad' e v 7 (Or.inl rfl) q1 q2 q3 q4 q5 q6 q7
end B989
