/-! ONE MORE IN A LIST, for every list -/
theorem xAd_Z {X : bS} {L : Nat} {mc : Int32} {cap i : Nat} : xZ (xAd X L mc cap) i = xZ X i := xZ_of (fun f hf => xAd_f (by simp only [List.mem_cons, List.not_mem_nil, or_false] at hf; omega)) i
theorem xAd_N {X : bS} {L : Nat} {mc : Int32} {cap i : Nat} : xN (xAd X L mc cap) i = xN X i := by unfold xN; rw [xAd_Z]
theorem xC_Ad {e : Nat} {ad ad' : xA} {X : bS} {L cap t i j : Nat} {mc : Int32} (hr : ∀ t', t' ≠ 23 → ad' t' = ad t') (h23 : ∀ i j, i ≠ L → ad' 23 i j = ad 23 i j) (n22 : ¬ (t = 22 ∧ i = L)) (n23 : ¬ (t = 23 ∧ i = L)) : xC e ad' (xAd X L mc cap) t i j = xC e ad X t i j := by
  by_cases z22 : t = 22
  · subst z22
    have hi : i ≠ L := fun y => n22 ⟨rfl, y⟩
    exact xC22_o (by rw [xAd_68, if_neg hi]) (by rw [xAd_69, if_neg hi]) xAd_Z (h23 i 0 hi)
  by_cases z23 : t = 23
  · subst z23
    have hi : i ≠ L := fun y => n23 ⟨rfl, y⟩
    exact xC23_o (by rw [xAd_69, if_neg hi]) xAd_Z fun k _ => by rw [hr 24 (by decide)]
  unfold xC
  rw [if_neg z22, if_neg z22, if_neg z23, if_neg z23]
  unfold xEl xMain xTab
  have ef : ∀ f, f ≠ 68 ∧ f ≠ 69 → xAd X L mc cap f = X f := fun f hf => xAd_f hf
  rw [ef 8 (by decide), ef 9 (by decide), ef 72 (by decide), ef 18 (by decide), ef 3 (by decide), ef 4 (by decide), ef 5 (by decide), ef 60 (by decide), ef 61 (by decide), ef 10 (by decide), ef 11 (by decide), ef 12 (by decide), ef 14 (by decide), ef 15 (by decide), ef 16 (by decide), ef 17 (by decide), ef 30 (by decide), ef 31 (by decide), ef 32 (by decide), ef 33 (by decide), ef 34 (by decide), ef 64 (by decide), ef 65 (by decide), ef 66 (by decide), ef 67 (by decide), ef 23 (by decide), ef 26 (by decide), ef 63 (by decide), ef 43 (by decide), ef 44 (by decide), ef 45 (by decide), ef 62 (by decide), ef 71 (by decide), ef 70 (by decide), ef 20 (by decide), ef 21 (by decide), ef 29 (by decide), ef 1 (by decide), ef 2 (by decide),
    hr 20 (by decide), hr 21 (by decide), hr 28 (by decide), hr 29 (by decide), hr 25 (by decide), hr 26 (by decide), hr 22 (by decide), hr 27 (by decide), hr 0 (by decide), hr 1 (by decide), hr 2 (by decide), hr 3 (by decide), hr 8 (by decide), hr 9 (by decide), hr 10 (by decide), hr 11 (by decide), hr 12 (by decide)]
/-- the contents of what was there before -/
theorem xC_g {e : Nat} {ad ad' : xA} {X X' : bS} {t i j : Nat} (hl : xL X t i j) (hA : ∀ t i j, xL X t i j → ad' t i j = ad t i j) (hr : ∀ t', t' ∉ [22, 23, 24, 25, 26, 27] → ad' t' = ad t') (h27p : t = 26 → ∀ p, ad' 27 i p = ad 27 i p)
    (hf : ∀ f, f ∈ [1, 2, 3, 4, 5, 8, 9, 10, 11, 12, 18, 20, 21, 29, 43, 44, 45, 60, 61, 62, 70, 71, 72] → X' f = X f) (h22 : t = 22 → X' 68 i 0 0 = X 68 i 0 0 ∧ X' 69 i 0 0 = X 69 i 0 0 ∧ xZ X' i = xZ X i) (h23 : t = 23 → X' 69 i 0 0 = X 69 i 0 0 ∧ xZ X' i = xZ X i)
    (h24 : t = 24 → (i = 0 → ∀ f, f ∈ [14, 15, 16, 17] → X' f j 0 0 = X f j 0 0) ∧ (i = 3 → ∀ f, f ∈ [30, 31, 32, 33, 34] → X' f j 0 0 = X f j 0 0) ∧ (4 ≤ i → ∀ f, f ∈ [64, 65, 66, 67] → X' f (i - 4) j 0 = X f (i - 4) j 0))
    (h25 : t = 25 → X' 23 i 0 0 = X 23 i 0 0 ∧ ∀ p, X' 26 i p 0 = X 26 i p 0) (h27 : t = 27 → ∀ c, X' 63 i j c = X 63 i j c) : xC e ad' X' t i j = xC e ad X t i j := by
  have hl0 := hl
  rcases hl with ⟨h0, -, -⟩ | ⟨rfl, -, -⟩ | ⟨rfl, -, -⟩ | ⟨rfl, hi, -⟩ | ⟨rfl, hi, -, h69⟩ | ⟨rfl, hi, hj⟩ | ⟨rfl, hi, -⟩ | ⟨rfl, hi, -⟩ | ⟨rfl, hi, -⟩ | ⟨rfl, hi, -⟩
  · simp only [List.mem_cons, List.not_mem_nil, or_false] at h0
    rcases h0 with rfl | rfl | rfl | rfl | rfl | rfl | rfl | rfl | rfl | rfl | rfl
    · show (Sum.inl (6, 36, mRs (tb 36 fun c => ad' 20 c 0)) : mE) = Sum.inl (6, 36, mRs (tb 36 fun c => ad 20 c 0))
      rw [hr 20 (by decide)]
    · show (Sum.inl (7, 4, mRs (tb 4 fun c => ad' 21 c 0)) : mE) = Sum.inl (7, 4, mRs (tb 4 fun c => ad 21 c 0))
      rw [hr 21 (by decide)]
    · show (Sum.inl (0, 4, mIs fun c => X' 8 c 0 0) : mE) = Sum.inl (0, 4, mIs fun c => X 8 c 0 0)
      rw [hf 8 (by decide)]
    · show (Sum.inl (0, 4, mIs fun c => X' 9 c 0 0) : mE) = Sum.inl (0, 4, mIs fun c => X 9 c 0 0)
      rw [hf 9 (by decide)]
    · show (Sum.inl (8, 3, mRs fun c => some (ad' 28 0 c)) : mE) = Sum.inl (8, 3, mRs fun c => some (ad 28 0 c))
      rw [hr 28 (by decide)]
    · show (Sum.inl (8, 12, mRs fun c => some (ad' 28 1 c)) : mE) = Sum.inl (8, 12, mRs fun c => some (ad 28 1 c))
      rw [hr 28 (by decide)]
    · show (Sum.inl (8, 40, mRs fun c => some (ad' 28 2 c)) : mE) = Sum.inl (8, 40, mRs fun c => some (ad 28 2 c))
      rw [hr 28 (by decide)]
    · show (Sum.inl (8, 40, mRs fun c => some (ad' 28 3 c)) : mE) = Sum.inl (8, 40, mRs fun c => some (ad 28 3 c))
      rw [hr 28 (by decide)]
    · show (Sum.inr (17, [.ref (ad' 29 0 0), .int 0, .int (X' 72 0 0 0), .int (X' 18 0 0 0)]) : mE) = Sum.inr (17, [.ref (ad 29 0 0), .int 0, .int (X 72 0 0 0), .int (X 18 0 0 0)])
      rw [hr 29 (by decide), hf 72 (by decide), hf 18 (by decide)]
    · show (Sum.inl (3, nn (X' 71 0 0 0), mIs fun p => X' 70 p 0 0) : mE) = Sum.inl (3, nn (X 71 0 0 0), mIs fun p => X 70 p 0 0)
      rw [hf 71 (by decide), hf 70 (by decide)]
    · show (Sum.inr (0, xMain ad' X') : mE) = Sum.inr (0, xMain ad X)
      unfold xMain
      rw [hr 0 (by decide), hr 1 (by decide), hr 2 (by decide), hr 3 (by decide), hr 8 (by decide), hr 9 (by decide), hr 10 (by decide), hr 11 (by decide), hr 12 (by decide), hA 22 0 0 (xl22 (by omega)), hA 22 1 0 (xl22 (by omega)), hA 22 2 0 (xl22 (by omega)), hA 22 3 0 (xl22 (by omega)), hf 20 (by decide), hf 21 (by decide), hf 29 (by decide), hf 1 (by decide), hf 2 (by decide)]
  · show (Sum.inr (1, [.int (X' 3 i 0 0), .int (X' 4 i 0 0), .int (X' 5 i 0 0), .int (X' 60 i 0 0), .int (X' 61 i 0 0)]) : mE) = Sum.inr (1, [.int (X 3 i 0 0), .int (X 4 i 0 0), .int (X 5 i 0 0), .int (X 60 i 0 0), .int (X 61 i 0 0)])
    rw [hf 3 (by decide), hf 4 (by decide), hf 5 (by decide), hf 60 (by decide), hf 61 (by decide)]
  · show (Sum.inr (2, [.int (X' 10 i 0 0), .int (X' 11 i 0 0), .int (X' 12 i 0 0)]) : mE) = Sum.inr (2, [.int (X 10 i 0 0), .int (X 11 i 0 0), .int (X 12 i 0 0)])
    rw [hf 10 (by decide), hf 11 (by decide), hf 12 (by decide)]
  · obtain ⟨h1, h2, h3⟩ := h22 rfl
    show (Sum.inr (16, [.int (X' 68 i 0 0), .ref (if X' 69 i 0 0 = 0 then e else ad' 23 i 0), .int (xZ X' i)]) : mE) = Sum.inr (16, [.int (X 68 i 0 0), .ref (if X 69 i 0 0 = 0 then e else ad 23 i 0), .int (xZ X i)])
    rw [h1, h2, h3]
    by_cases z : X 69 i 0 0 = 0
    · rw [if_pos z, if_pos z]
    · rw [if_neg z, if_neg z, hA 23 i 0 (xl23 hi z)]
  · obtain ⟨h2, h3⟩ := h23 rfl
    exact xC23_o h2 h3 fun k hk => hA 24 i k (xl24 hi hk)
  · obtain ⟨g1, g2, g3⟩ := h24 rfl
    show xEl ad' X' i j = xEl ad X i j
    unfold xEl
    by_cases y0 : i = 0
    · rw [if_pos y0, if_pos y0, g1 y0 14 (by decide), g1 y0 15 (by decide), g1 y0 16 (by decide), g1 y0 17 (by decide)]
    rw [if_neg y0, if_neg y0]
    by_cases y1 : i = 1
    · subst y1
      rw [if_pos rfl, if_pos rfl, hA 25 j 0 (xl25 hj)]
    rw [if_neg y1, if_neg y1]
    by_cases y2 : i = 2
    · subst y2
      rw [if_pos rfl, if_pos rfl, hA 26 j 0 (xl26 hj)]
    rw [if_neg y2, if_neg y2]
    by_cases y3 : i = 3
    · rw [if_pos y3, if_pos y3, g2 y3 30 (by decide), g2 y3 31 (by decide), g2 y3 32 (by decide), g2 y3 33 (by decide), g2 y3 34 (by decide)]
      subst y3
      rw [hA 22 (4 + j) 0 (xl22 (by omega))]
    · rw [if_neg y3, if_neg y3, g3 (by omega) 64 (by decide), g3 (by omega) 65 (by decide), g3 (by omega) 66 (by decide), g3 (by omega) 67 (by decide)]
  · obtain ⟨h1, h2⟩ := h25 rfl
    show (Sum.inl (0, nn (X' 23 i 0 0), mIs fun p => X' 26 i p 0) : mE) = Sum.inl (0, nn (X 23 i 0 0), mIs fun p => X 26 i p 0)
    rw [h1]
    exact congrArg (fun g : Nat → Int32 => (Sum.inl (0, nn (X 23 i 0 0), mIs g) : mE)) (funext h2)
  · show (Sum.inl (11, 40, mRs fun p => some (ad' 27 i p)) : mE) = Sum.inl (11, 40, mRs fun p => some (ad 27 i p))
    exact congrArg (fun g : Nat → Option Nat => (Sum.inl (11, 40, mRs g) : mE)) (funext fun p => by rw [h27p rfl p])
  · show (Sum.inl (2, 36, mIs fun c => X' 63 i j c) : mE) = Sum.inl (2, 36, mIs fun c => X 63 i j c)
    exact congrArg (fun g : Nat → Int32 => (Sum.inl (2, 36, mIs g) : mE)) (funext (h27 rfl))
  · show (Sum.inl (0, xCols i, mIs fun c => xTab X' i j c) : mE) = Sum.inl (0, xCols i, mIs fun c => xTab X i j c)
    unfold xTab
    rw [hf 43 (by decide), hf 44 (by decide), hf 45 (by decide), hf 62 (by decide)]
section B90
variable {G : mG} {b : Nat} {κ : xK} {M : mM} {ad : xA} {X : bS}
theorem x_push (h : rX κ M ad X) (hI : xI X) (hG : κ.2.1 = G.2.2 0) (hC : κ.1 (G.2.2 0) = some (false, .inl (5, 0, mRs fun _ => none))) {L : Nat} (hL : L < 4 + xN X 3) (hn : xN X L < 200) {q : Nat} {X1 : bS} {ad1 : xA} (N : Nat → Nat → Nat → Prop) (hb : 310 ≤ b)
    (a1 : ∀ t i j, xL X1 t i j → xL X t i j ∨ N t i j) (a2 : ∀ t i j, xL X t i j → ad1 t i j = ad t i j ∧ (¬ (t = 22 ∧ i = L) → ¬ (t = 23 ∧ i = L) → xC κ.2.1 ad1 X1 t i j = xC κ.2.1 ad X t i j))
    (a3 : ∀ t i j, N t i j → xO κ ad X (ad1 t i j) ∧ M (ad1 t i j) = some (true, xC κ.2.1 ad1 X1 t i j) ∧ t ≠ 23 ∧ ¬ (t = 22 ∧ i = L)) (a4 : ∀ t i j t' i' j', N t i j → N t' i' j' → ad1 t i j = ad1 t' i' j' → t = t' ∧ i = i' ∧ j = j')
    (a5 : xZ X1 L = Int32.ofNat (xN X L + 1)) (a7 : bIn (X1 28 0 0 0) 0 40 = true ∧ ∀ i, i < 4 + xN X1 3 → i ≠ L → bIn (xZ X1 i) 0 200 = true ∧ xN X1 i ≤ nn (X1 69 i 0 0) ∧ bIn (X1 69 i 0 0) 0 400 = true) (aq : ad1 24 L (xN X L) = q) (hi : iso M q)
    {K : Int32 → mM → Prop} (kk : ∀ M' ad' X', rX κ M' ad' X' → xI X' → xE X1 X' → (∀ t i j, xL X t i j → t ≠ 23 → ad' t i j = ad t i j) → K 1 M') : wp_J2_add G b K M (ad 22 L 0) q := by
  obtain ⟨e0, e2⟩ := hI.z hL
  refine r_add (h.aL hI hG hC hL) hn (fun i hi' y hy => ?_) hi hb fun M' ed' cap' hA hc0 hed hM' => ?_
  · by_cases z : i < xN X L
    · rw [if_pos z] at hy
      cases hy
      have := h.at (xl24 hL z)
      have e : ∃ ci fs, xC κ.2.1 ad X 24 L i = .inr (ci, fs) := by
        show ∃ ci fs, xEl ad X L i = _
        unfold xEl
        split
        · exact ⟨_, _, rfl⟩
        · split
          · exact ⟨_, _, rfl⟩
          · split
            · exact ⟨_, _, rfl⟩
            · split <;> exact ⟨_, _, rfl⟩
      obtain ⟨ci, fs, e⟩ := e
      rw [e] at this
      exact ⟨true, ci, fs, this⟩
    · rw [if_neg z] at hy
      cases hy
  obtain ⟨b1, b2, ⟨b3, -, b5⟩, -⟩ := hA
  have b2 : ed' ≠ ad 22 L 0 ∧ M' ed' = some (true, .inl (5, cap', mRs (va_up (fun j => if j < xN X L then some (ad 24 L j) else none) (xN X L) (some q)))) := by
    rcases b2 with z | z
    · exact ⟨z.2.1, z.2.2⟩
    · exact absurd z.1 hc0
  have hcap0 : (¬ nn (X 69 L 0 0) = 0) → ¬ X 69 L 0 0 = 0 := fun y z => y (by rw [z]; rfl)
  have hedx : (¬ X 69 L 0 0 = 0 ∧ ed' = ad 23 L 0) ∨ xO κ ad X ed' := by
    rcases hed with z | z
    · have := hcap0 z.1
      rw [if_neg this] at z
      exact Or.inl ⟨this, z.2.1⟩
    · exact Or.inr (h.fresh z)
  have hne : ∀ t i j, N t i j → ad1 t i j ≠ ed' := fun t i j hN y => by
    obtain ⟨o1, o2, -⟩ := a3 t i j hN
    rcases hed with z | z
    · have := hcap0 z.1
      rw [if_neg this] at z
      exact o1.1 _ _ _ (xl23 hL this) (z.2.1.symm.trans y.symm)
    · rw [y, z] at o2
      cases o2
  let mc := X 68 L 0 0 + 1
  let ad' : xA := fun t i j => if t = 23 ∧ i = L ∧ j = 0 then ed' else ad1 t i j
  have k3 : ad' 23 L 0 = ed' := if_pos ⟨rfl, rfl, rfl⟩
  have ao : ∀ t', t' ≠ 23 → ad' t' = ad1 t' := fun t' ht => by
    funext i j
    exact if_neg fun z => ht z.1
  have a23 : ∀ i j, i ≠ L → ad' 23 i j = ad1 23 i j := fun i j hi => if_neg fun z => hi z.2.1
  have key : rX κ M' ad' (xAd X1 L mc cap') := by
    refine h.push hL N hM' hedx (fun t i j hl => ?_) (fun t i j hl hn => ?_) k3 (fun t i j hN => ?_) (fun t i j t' i' j' hN hN' he => ?_) ?_ ?_ b2.1
    · have hl' : xL X1 t i j ∨ (t = 23 ∧ i = L ∧ j = 0) := by
        unfold xL at hl ⊢
        rw [xAd_N, xAd_N, xAd_N, xAd_N, xAd_69] at hl
        rcases hl with z | z | z | z | z | z | z | z | z | z
        · exact Or.inl (Or.inl z)
        · exact Or.inl (Or.inr (Or.inl z))
        · exact Or.inl (Or.inr (Or.inr (Or.inl z)))
        · exact Or.inl (Or.inr (Or.inr (Or.inr (Or.inl z))))
        · by_cases y : i = L
          · exact Or.inr ⟨z.1, y, z.2.2.1⟩
          · rw [if_neg y] at z
            exact Or.inl (Or.inr (Or.inr (Or.inr (Or.inr (Or.inl z)))))
        · exact Or.inl (Or.inr (Or.inr (Or.inr (Or.inr (Or.inr (Or.inl z))))))
        · exact Or.inl (Or.inr (Or.inr (Or.inr (Or.inr (Or.inr (Or.inr (Or.inl z)))))))
        · exact Or.inl (Or.inr (Or.inr (Or.inr (Or.inr (Or.inr (Or.inr (Or.inr (Or.inl z))))))))
        · exact Or.inl (Or.inr (Or.inr (Or.inr (Or.inr (Or.inr (Or.inr (Or.inr (Or.inr (Or.inl z)))))))))
        · exact Or.inl (Or.inr (Or.inr (Or.inr (Or.inr (Or.inr (Or.inr (Or.inr (Or.inr (Or.inr z)))))))))
      rcases hl' with z | z
      · rcases a1 t i j z with y | y
        · exact Or.inl y
        · exact Or.inr (Or.inr y)
      · exact Or.inr (Or.inl z)
    · obtain ⟨c1, c2⟩ := a2 t i j hl
      refine ⟨?_, fun h22 => ?_⟩
      · rw [← c1]
        exact if_neg fun z => hn ⟨z.1, z.2.1⟩
      · rw [← c2 h22 hn]
        exact xC_Ad ao a23 h22 hn
    · obtain ⟨c1, c2, c3, c4⟩ := a3 t i j hN
      have e : ad' t i j = ad1 t i j := if_neg fun z => c3 z.1
      rw [e]
      refine ⟨c1, hne t i j hN, ?_⟩
      rw [c2]
      exact congrArg (fun v => some (true, v)) (xC_Ad ao a23 c4 fun z => c3 z.1).symm
    · have e : ad' t i j = ad1 t i j := if_neg fun z => (a3 t i j hN).2.2.1 z.1
      have e' : ad' t' i' j' = ad1 t' i' j' := if_neg fun z => (a3 t' i' j' hN').2.2.1 z.1
      rw [e, e'] at he
      exact a4 t i j t' i' j' hN hN' he
    · rw [b1, xC22_n (cap := cap') (n := xN X L) (mc := mc) (by rw [xAd_68, if_pos rfl]) (by rw [xAd_69, if_pos rfl]) ⟨hc0, b5⟩ (by rw [xAd_Z]; exact a5), k3]
    · rw [b2.2, xC23_n (ad := ad) (cap := cap') (n := xN X L) (q := q) (by rw [xAd_69, if_pos rfl]) b5 e2 (by rw [xAd_Z]; exact a5) (fun k hk => by rw [ao 24 (by decide)]; exact (a2 24 L k (xl24 hL hk)).1) (by rw [ao 24 (by decide)]; exact aq)]
  refine kk M' ad' _ key ⟨?_, fun i hi => ?_⟩ (fun g g1 g2 => xAd_f ⟨g1, g2⟩) fun t i j hl ht => (if_neg fun z => ht z.1).trans (a2 t i j hl).1
  · rw [xAd_f (by decide)]
    exact a7.1
  · rw [xAd_N] at hi
    rw [xAd_Z, xAd_N, xAd_69]
    by_cases z : i = L
    · subst z
      have bb : ∀ a c : Nat, a ≤ c → c < 1000 → bIn (Int32.ofNat a) 0 (Int32.ofNat c) = true := fun a c h1 h2 => by
        unfold bIn
        rw [decide_eq_true (show (0 : Int32) ≤ Int32.ofNat a from (i_le (a := 0) (by decide) (by omega)).mpr (by omega)), decide_eq_true ((i_le (by omega) (by omega)).mpr h1)]; rfl
      rw [if_pos rfl, i_nn (by omega)]
      have e : xN X1 i = xN X i + 1 := by unfold xN; rw [a5]; exact i_nn (by unfold xN at hn; omega)
      rw [e, a5]
      exact ⟨bb _ 200 (by omega) (by omega), b3, bb _ 400 (by omega) (by omega)⟩
    · rw [if_neg z]
      exact a7.2 i hi z
end B90
