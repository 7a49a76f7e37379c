/-! THE CLASS's addSluice -/
theorem xC_eq {e : Nat} {ad ad' : xA} {X X' : bS} {t i j : Nat} (hl : xL X t i j) (hf : t ∉ [22, 23, 24] → ∀ f, f ∈ xR t → X' f = X f) (hr : ∀ t', t' ∉ [22, 23, 24, 25, 26, 27] → ad' t' = ad t') (h40 : ∀ L, L < 4 → ad' 22 L 0 = ad 22 L 0)
    (h22 : t = 22 → xC e ad' X' 22 i j = xC e ad X 22 i j) (h23 : t = 23 → xC e ad' X' 23 i j = xC e ad X 23 i j) (h24 : t = 24 → xC e ad' X' 24 i j = xC e ad X 24 i j) (h26 : t = 26 → ∀ p, ad' 27 i p = ad 27 i p) : xC e ad' X' t i j = xC e ad X t i j := by
  by_cases z22 : t = 22
  · subst z22; exact h22 rfl
  by_cases z23 : t = 23
  · subst z23; exact h23 rfl
  by_cases z24 : t = 24
  · subst z24; exact h24 rfl
  have hf := hf (by simp only [List.mem_cons, List.not_mem_nil, or_false]; omega)
  rw [← xC_of (X' := X') hl hf]
  unfold xC xMain
  rw [if_neg z22, if_neg z22, if_neg z23, if_neg z23, if_neg z24, if_neg z24, hr 0 (by decide), hr 1 (by decide), hr 2 (by decide), hr 3 (by decide), hr 8 (by decide), hr 9 (by decide), hr 10 (by decide), hr 11 (by decide), hr 12 (by decide), hr 20 (by decide), hr 21 (by decide), hr 28 (by decide), hr 29 (by decide), h40 0 (by decide), h40 1 (by decide), h40 2 (by decide), h40 3 (by decide)]
  by_cases z26 : t = 26
  · have h26 := h26 z26
    simp only [h26]
  · simp only [if_neg z26]
/-- the bank behind a list's add -/
def xAd (X : bS) (L : Nat) (mc : Int32) (cap : Nat) : bS := bU (bU X 68 L 0 0 mc) 69 L 0 0 (Int32.ofNat cap)
theorem xAd_f {X : bS} {L : Nat} {mc : Int32} {cap f : Nat} (h : f ≠ 68 ∧ f ≠ 69) : xAd X L mc cap f = X f := by
  unfold xAd
  rw [bU_ff h.2, bU_ff h.1]
theorem xAd_68 {X : bS} {L i : Nat} {mc : Int32} {cap : Nat} : xAd X L mc cap 68 i 0 0 = if i = L then mc else X 68 i 0 0 := by
  unfold xAd
  rw [bU_ff (by decide)]
  by_cases z : i = L
  · rw [if_pos z, z, bU_s]
  · rw [if_neg z, bU_i z]
theorem xAd_69 {X : bS} {L i : Nat} {mc : Int32} {cap : Nat} : xAd X L mc cap 69 i 0 0 = if i = L then Int32.ofNat cap else X 69 i 0 0 := by
  unfold xAd
  by_cases z : i = L
  · rw [if_pos z, z, bU_s]
  · rw [if_neg z, bU_i z, bU_f (by decide)]
/-- what every list's add does to the keys 22, 23 of other lists -/
theorem xC22_o {e : Nat} {ad ad' : xA} {X X' : bS} {i j : Nat} (h1 : X' 68 i 0 0 = X 68 i 0 0) (h2 : X' 69 i 0 0 = X 69 i 0 0) (h3 : xZ X' i = xZ X i) (h4 : ad' 23 i 0 = ad 23 i 0) : xC e ad' X' 22 i j = xC e ad X 22 i j := by
  show (Sum.inr (16, [.int (X' 68 i 0 0), .ref (if X' 69 i 0 0 = 0 then e else ad' 23 i 0), .int (xZ X' i)]) : mE) = Sum.inr (16, [.int (X 68 i 0 0), .ref (if X 69 i 0 0 = 0 then e else ad 23 i 0), .int (xZ X i)])
  rw [h1, h2, h3, h4]
theorem xC23_o {e : Nat} {ad ad' : xA} {X X' : bS} {i j : Nat} (h2 : X' 69 i 0 0 = X 69 i 0 0) (h3 : xZ X' i = xZ X i) (h4 : ∀ k, k < xN X i → ad' 24 i k = ad 24 i k) : xC e ad' X' 23 i j = xC e ad X 23 i j := by
  show (Sum.inl (5, nn (X' 69 i 0 0), mRs fun j => if j < xN X' i then some (ad' 24 i j) else none) : mE) = Sum.inl (5, nn (X 69 i 0 0), mRs fun j => if j < xN X i then some (ad 24 i j) else none)
  have h5 : xN X' i = xN X i := by unfold xN; rw [h3]
  rw [h2, h5]
  refine congrArg (fun g : Nat → Option Nat => (Sum.inl (5, nn (X 69 i 0 0), mRs g) : mE)) (funext fun k => ?_)
  by_cases z : k < xN X i
  · rw [if_pos z, if_pos z, h4 k z]
  · rw [if_neg z, if_neg z]
/-- the list that gets one more -/
theorem xC22_n {e : Nat} {ad' : xA} {X' : bS} {L cap n : Nat} {mc : Int32} (h1 : X' 68 L 0 0 = mc) (h2 : X' 69 L 0 0 = Int32.ofNat cap) (hc : ¬ cap = 0 ∧ cap ≤ 400) (h3 : xZ X' L = Int32.ofNat (n + 1)) : xC e ad' X' 22 L 0 = .inr (16, [.int mc, .ref (ad' 23 L 0), .int (Int32.ofNat (n + 1))]) := by
  show (Sum.inr (16, [.int (X' 68 L 0 0), .ref (if X' 69 L 0 0 = 0 then e else ad' 23 L 0), .int (xZ X' L)]) : mE) = _
  have : ¬ X' 69 L 0 0 = 0 := by
    rw [h2]
    exact fun z => hc.1 (i_eq (by omega) (by omega) z)
  rw [if_neg this, h1, h3]
theorem xC23_n {e : Nat} {ad ad' : xA} {X' : bS} {L cap n q : Nat} (h2 : X' 69 L 0 0 = Int32.ofNat cap) (hc : cap ≤ 400) (hn : n ≤ 200) (h3 : xZ X' L = Int32.ofNat (n + 1)) (h4 : ∀ k, k < n → ad' 24 L k = ad 24 L k) (h5 : ad' 24 L n = q) : xC e ad' X' 23 L 0 = .inl (5, cap, mRs (va_up (fun j => if j < n then some (ad 24 L j) else none) n (some q))) := by
  show (Sum.inl (5, nn (X' 69 L 0 0), mRs fun j => if j < xN X' L then some (ad' 24 L j) else none) : mE) = _
  have e1 : xN X' L = n + 1 := by unfold xN; rw [h3]; exact i_nn (by omega)
  rw [h2, i_nn (by omega), e1]
  refine congrArg (fun g : Nat → Option Nat => (Sum.inl (5, cap, mRs g) : mE)) (funext fun k => ?_)
  unfold va_up
  by_cases z : k = n
  · rw [if_pos z, if_pos (by omega), z, h5]
  · rw [if_neg z]
    show _ = (if k < n then some (ad 24 L k) else none)
    by_cases y : k < n
    · rw [if_pos y, if_pos (by omega), h4 k y]
    · rw [if_neg y, if_neg (by omega)]
def xSlu (X : bS) (f t l : Int32) : bS := bU (bU (bU (bU (bU X 14 (nn (X 13 0 0 0)) 0 0 f) 15 (nn (X 13 0 0 0)) 0 0 t) 16 (nn (X 13 0 0 0)) 0 0 l) 17 (nn (X 13 0 0 0)) 0 0 1) 13 0 0 0 (X 13 0 0 0 + 1)
theorem xSlu_f {X : bS} {f t l : Int32} {g : Nat} (h : g ∉ [13, 14, 15, 16, 17]) : xSlu X f t l g = X g := by
  simp only [List.mem_cons, List.not_mem_nil, or_false] at h
  unfold xSlu
  rw [bU_ff (by omega), bU_ff (by omega), bU_ff (by omega), bU_ff (by omega), bU_ff (by omega)]
/-- banks that are the same but for what only the lists know -/
def xE (X X' : bS) : Prop := ∀ f, f ≠ 68 → f ≠ 69 → X' f = X f
section B77
variable {G : mG} {b : Nat} {κ : xK} {M : mM} {ad : xA} {X : bS}
theorem xI.add (hI : xI X) {X' : bS} {L cap : Nat} (hL : L < 4 + xN X 3) (h28 : bIn (X' 28 0 0 0) 0 40 = true) (h3 : 4 + xN X' 3 ≤ 4 + xN X 3) (hz : ∀ i, i < 4 + xN X 3 → i ≠ L → xZ X' i = xZ X i ∧ X' 69 i 0 0 = X 69 i 0 0) (hn : xZ X' L = Int32.ofNat (xN X L + 1)) (h69 : X' 69 L 0 0 = Int32.ofNat cap) (hc : xN X L + 1 ≤ cap ∧ cap ≤ 400) (h200 : xN X L < 200) : xI X' := by
  refine ⟨h28, fun i hi => ?_⟩
  have hi2 : i < 4 + xN X 3 := by omega
  by_cases z : i = L
  · subst z
    have e : xN X' i = xN X i + 1 := by unfold xN; rw [hn]; exact i_nn (by unfold xN at h200; omega)
    rw [e, hn, h69, i_nn (by omega)]
    have bb : ∀ a c : Nat, a ≤ c → c < 1000 → bIn (Int32.ofNat a) 0 (Int32.ofNat c) = true := fun a c h1 h2 => by
      unfold bIn
      rw [decide_eq_true (show (0 : Int32) ≤ Int32.ofNat a from (i_le (a := 0) (by decide) (by omega)).mpr (by omega)), decide_eq_true ((i_le (by omega) (by omega)).mpr h1)]; rfl
    exact ⟨bb _ 200 (by omega) (by omega), hc.1, bb _ 400 (by omega) (by omega)⟩
  · obtain ⟨e1, e2⟩ := hz i hi2 z
    have e3 : xN X' i = xN X i := by unfold xN; rw [e1]
    rw [e1, e2, e3]
    exact hI.2 i hi2
theorem x_slu (h : rX κ M ad X) (hI : xI X) (hG : κ.2.1 = G.2.2 0) (hC : κ.1 (G.2.2 0) = some (false, .inl (5, 0, mRs fun _ => none))) (h8 : xN X 0 < 200) {q : Nat} (hq : xO κ ad X q) {f t l : Int32} (hM : M q = some (true, .inr (4, [.int f, .int t, .int l, .int 1]))) (hb : 310 ≤ b) {K : Int32 → mM → Prop} (kk : ∀ M' ad' X', rX κ M' ad' X' → xI X' → xE (xSlu X f t l) X' → K 1 M') : wp_J2_add G b K M (ad 22 0 0) q := by
  have hL : 0 < 4 + xN X 3 := by omega
  obtain ⟨e0, e2⟩ := hI.z hL
  have hn0 : xN X 0 = nn (X 13 0 0 0) := rfl
  refine r_add (h.aL hI hG hC hL) h8 (fun i hi y hy => ?_) ⟨true, 4, _, hM⟩ hb fun M' ed' cap' hA hc0 hed hM' => ?_
  · by_cases z : i < xN X 0
    · rw [if_pos z] at hy
      cases hy
      exact ⟨true, 4, _, h.at (xl24 hL z)⟩
    · rw [if_neg z] at hy
      cases hy
  obtain ⟨a1, a2, ⟨a3, -, a5⟩, -⟩ := hA
  have a2 : ed' ≠ ad 22 0 0 ∧ M' ed' = some (true, .inl (5, cap', mRs (va_up (fun j => if j < xN X 0 then some (ad 24 0 j) else none) (xN X 0) (some q)))) := by
    rcases a2 with z | z
    · exact ⟨z.2.1, z.2.2⟩
    · exact absurd z.1 hc0
  have hcap0 : (¬ nn (X 69 0 0 0) = 0) → ¬ X 69 0 0 0 = 0 := fun y z => y (by rw [z]; rfl)
  -- the new bank and the new addresses
  have hz0 : xZ (xAd (xSlu X f t l) 0 (X 68 0 0 0 + 1) cap') 0 = Int32.ofNat (xN X 0 + 1) := by
    show xAd (xSlu X f t l) 0 (X 68 0 0 0 + 1) cap' 13 0 0 0 = _
    rw [xAd_f (by decide)]
    unfold xSlu
    rw [bU_s, hn0, ← i_s]
    exact congrArg (· + 1) (i_of (bIn_t (hI.2 0 hL).1).1)
  have hzi : ∀ i, i ≠ 0 → xZ (xAd (xSlu X f t l) 0 (X 68 0 0 0 + 1) cap') i = xZ X i := fun i hi => by
    unfold xZ
    rw [if_neg hi, if_neg hi, xAd_f (by decide), xAd_f (by decide), xAd_f (by decide), xAd_f (by decide), xSlu_f (by decide), xSlu_f (by decide), xSlu_f (by decide), xSlu_f (by decide)]
  have hN3 : xN (xAd (xSlu X f t l) 0 (X 68 0 0 0 + 1) cap') 3 = xN X 3 := by unfold xN; rw [hzi 3 (by decide)]
  have hN1 : xN (xAd (xSlu X f t l) 0 (X 68 0 0 0 + 1) cap') 1 = xN X 1 := by unfold xN; rw [hzi 1 (by decide)]
  have hN2 : xN (xAd (xSlu X f t l) 0 (X 68 0 0 0 + 1) cap') 2 = xN X 2 := by unfold xN; rw [hzi 2 (by decide)]
  have hNi : ∀ i, i ≠ 0 → xN (xAd (xSlu X f t l) 0 (X 68 0 0 0 + 1) cap') i = xN X i := fun i hi => by unfold xN; rw [hzi i hi]
  have hN0 : xN (xAd (xSlu X f t l) 0 (X 68 0 0 0 + 1) cap') 0 = xN X 0 + 1 := by unfold xN; rw [hz0]; exact i_nn (by unfold xN at h8; omega)
  have hne69 : ∀ i, i ≠ 0 → xAd (xSlu X f t l) 0 (X 68 0 0 0 + 1) cap' 69 i 0 0 = X 69 i 0 0 := fun i hi => by rw [xAd_69, if_neg hi, xSlu_f (by decide)]
  have hedx : (¬ X 69 0 0 0 = 0 ∧ ed' = ad 23 0 0) ∨ xO κ ad X ed' := by
    rcases hed with z | z
    · have := hcap0 z.1
      rw [if_neg this] at z
      exact Or.inl ⟨this, z.2.1⟩
    · exact Or.inr (h.fresh z)
  have hqe : q ≠ ed' := by
    rintro rfl
    rcases hed with z | z
    · have := hcap0 z.1
      rw [if_neg this] at z
      exact hq.1 _ _ _ (xl23 hL this) z.2.1.symm
    · rw [hM] at z
      cases z
  have key : rX κ M' (fun t i j => if t = 23 ∧ i = 0 ∧ j = 0 then ed' else if t = 24 ∧ i = 0 ∧ j = xN X 0 then q else ad t i j) (xAd (xSlu X f t l) 0 (X 68 0 0 0 + 1) cap') := by
    have a24 : ∀ i k, ¬ (i = 0 ∧ k = xN X 0) → (fun t i j => if t = 23 ∧ i = 0 ∧ j = 0 then ed' else if t = 24 ∧ i = 0 ∧ j = xN X 0 then q else ad t i j) 24 i k = ad 24 i k := fun i k hk => by
      show (if 24 = 23 ∧ i = 0 ∧ k = 0 then ed' else if 24 = 24 ∧ i = 0 ∧ k = xN X 0 then q else ad 24 i k) = _
      rw [if_neg (by omega), if_neg fun z => hk z.2]
    have a24n : (fun t i j => if t = 23 ∧ i = 0 ∧ j = 0 then ed' else if t = 24 ∧ i = 0 ∧ j = xN X 0 then q else ad t i j) 24 0 (xN X 0) = q := by
      show (if 24 = 23 ∧ 0 = 0 ∧ xN X 0 = 0 then ed' else if 24 = 24 ∧ 0 = 0 ∧ xN X 0 = xN X 0 then q else ad 24 0 (xN X 0)) = _
      rw [if_neg (by omega), if_pos ⟨rfl, rfl, rfl⟩]
    have ao : ∀ t', t' ≠ 23 → t' ≠ 24 → (fun t i j => if t = 23 ∧ i = 0 ∧ j = 0 then ed' else if t = 24 ∧ i = 0 ∧ j = xN X 0 then q else ad t i j) t' = ad t' := fun t' h1 h2 => by
      funext i j
      show (if t' = 23 ∧ i = 0 ∧ j = 0 then ed' else if t' = 24 ∧ i = 0 ∧ j = xN X 0 then q else ad t' i j) = _
      rw [if_neg fun z => h1 z.1, if_neg fun z => h2 z.1]
    have a23 : ∀ i, i ≠ 0 → (fun t i j => if t = 23 ∧ i = 0 ∧ j = 0 then ed' else if t = 24 ∧ i = 0 ∧ j = xN X 0 then q else ad t i j) 23 i 0 = ad 23 i 0 := fun i hi => by
      show (if 23 = 23 ∧ i = 0 ∧ 0 = 0 then ed' else if 23 = 24 ∧ i = 0 ∧ 0 = xN X 0 then q else ad 23 i 0) = _
      rw [if_neg fun z => hi z.2.1, if_neg (by omega)]
    generalize hadd : (fun t i j => if t = 23 ∧ i = 0 ∧ j = 0 then ed' else if t = 24 ∧ i = 0 ∧ j = xN X 0 then q else ad t i j) = ad' at a24 a24n ao a23
    have k3 : ad' 23 0 0 = ed' := by
      rw [← hadd]
      exact if_pos ⟨rfl, rfl, rfl⟩
    have new24 : xC κ.2.1 ad' (xAd (xSlu X f t l) 0 (X 68 0 0 0 + 1) cap') 24 0 (xN X 0) = .inr (4, [.int f, .int t, .int l, .int 1]) := by
      show (Sum.inr (4, [.int (xAd (xSlu X f t l) 0 (X 68 0 0 0 + 1) cap' 14 (xN X 0) 0 0), .int (xAd (xSlu X f t l) 0 (X 68 0 0 0 + 1) cap' 15 (xN X 0) 0 0), .int (xAd (xSlu X f t l) 0 (X 68 0 0 0 + 1) cap' 16 (xN X 0) 0 0), .int (xAd (xSlu X f t l) 0 (X 68 0 0 0 + 1) cap' 17 (xN X 0) 0 0)]) : mE) = _
      rw [xAd_f (by decide), xAd_f (by decide), xAd_f (by decide), xAd_f (by decide)]
      unfold xSlu
      rw [hn0, bU_f (f' := 14) (by decide), bU_f (f' := 14) (by decide), bU_f (f' := 14) (by decide), bU_f (f' := 14) (by decide), bU_s, bU_f (f' := 15) (by decide), bU_f (f' := 15) (by decide), bU_f (f' := 15) (by decide), bU_s, bU_f (f' := 16) (by decide), bU_f (f' := 16) (by decide), bU_s, bU_f (f' := 17) (by decide), bU_s]
    refine h.push hL (fun t i j => t = 24 ∧ i = 0 ∧ j = xN X 0) hM' hedx (fun t' i j hl => ?_) (fun t' i j hl hn => ⟨?_, fun h22 => ?_⟩) k3 ?_ ?_ ?_ ?_ a2.1
    · unfold xL at hl ⊢
      rw [hN3, hN1, hN2] at hl
      rcases hl with z | z | z | z | z | z | z | z | z | z
      · exact Or.inl (Or.inl z)
      · exact Or.inl (Or.inr (Or.inl z))
      · exact Or.inl (Or.inr (Or.inr (Or.inl z)))
      · exact Or.inl (Or.inr (Or.inr (Or.inr (Or.inl z))))
      · by_cases y : i = 0
        · exact Or.inr (Or.inl ⟨z.1, y, z.2.2.1⟩)
        · rw [hne69 i y] at z
          exact Or.inl (Or.inr (Or.inr (Or.inr (Or.inr (Or.inl z)))))
      · by_cases y : i = 0
        · subst y
          rw [hN0] at z
          by_cases w : j = xN X 0
          · exact Or.inr (Or.inr ⟨z.1, rfl, w⟩)
          · exact Or.inl (Or.inr (Or.inr (Or.inr (Or.inr (Or.inr (Or.inl ⟨z.1, z.2.1, by omega⟩))))))
        · rw [hNi i y] at z
          exact Or.inl (Or.inr (Or.inr (Or.inr (Or.inr (Or.inr (Or.inl z))))))
      · exact Or.inl (Or.inr (Or.inr (Or.inr (Or.inr (Or.inr (Or.inr (Or.inl z)))))))
      · exact Or.inl (Or.inr (Or.inr (Or.inr (Or.inr (Or.inr (Or.inr (Or.inr (Or.inl z))))))))
      · exact Or.inl (Or.inr (Or.inr (Or.inr (Or.inr (Or.inr (Or.inr (Or.inr (Or.inr (Or.inl z)))))))))
      · exact Or.inl (Or.inr (Or.inr (Or.inr (Or.inr (Or.inr (Or.inr (Or.inr (Or.inr (Or.inr z)))))))))
    · by_cases z : t' = 24
      · subst z
        refine a24 i j fun y => ?_
        obtain ⟨rfl, rfl⟩ := y
        rcases hl with z | z | z | z | z | z | z | z | z | z <;> first | omega | (have z := z.1; simp at z)
      · by_cases y : t' = 23
        · subst y
          have hj : j = 0 := by
            rcases hl with z | z | z | z | z | z | z | z | z | z <;> first | exact z.2.2.1 | (have z := z.1; simp at z)
          subst hj
          exact a23 i fun w => hn ⟨rfl, w⟩
        · rw [ao t' y z]
    · refine xC_eq hl (fun ht g hg => ?_) (fun t'' ht => ao t'' (fun z => ht (by rw [z]; decide)) (fun z => ht (by rw [z]; decide))) (fun L hL4 => by rw [ao 22 (by decide) (by decide)]) (fun z => ?_) (fun z => ?_) (fun z => ?_) (fun _ p => by rw [ao 27 (by decide) (by decide)])
      · have g1 : g ∉ [13, 14, 15, 16, 17, 68, 69] := fun hm => ht (by
          simp only [List.mem_cons, List.not_mem_nil, or_false] at hm
          have : ∀ t, t < 41 → g ∈ xR t → t ∈ [22, 23, 24] := by
            rcases hm with rfl | rfl | rfl | rfl | rfl | rfl | rfl <;> decide
          rcases Nat.lt_or_ge t' 41 with y | y
          · exact this t' y hg
          · rw [xR_big y] at hg
            exact absurd hg (by simp))
        simp only [List.mem_cons, List.not_mem_nil, or_false] at g1
        rw [xAd_f (by omega), xSlu_f (by simp only [List.mem_cons, List.not_mem_nil, or_false]; omega)]
      · have hi : i ≠ 0 := fun y => h22 ⟨z, y⟩
        exact xC22_o (by rw [xAd_68, if_neg hi, xSlu_f (by decide)]) (hne69 i hi) (hzi i hi) (a23 i hi)
      · have hi : i ≠ 0 := fun y => hn ⟨z, y⟩
        exact xC23_o (hne69 i hi) (hzi i hi) fun k _ => a24 i k fun y => hi y.1
      · subst z
        have hj : j < xN X i := by
          rcases hl with z | z | z | z | z | z | z | z | z | z <;> first | exact z.2.2 | (have z := z.1; simp at z)
        show xEl ad' _ i j = xEl ad X i j
        unfold xEl
        rw [ao 25 (by decide) (by decide), ao 26 (by decide) (by decide), ao 22 (by decide) (by decide)]
        have ef : ∀ g, g ∉ [13, 14, 15, 16, 17, 68, 69] → xAd (xSlu X f t l) 0 (X 68 0 0 0 + 1) cap' g = X g := fun g hg => by
          simp only [List.mem_cons, List.not_mem_nil, or_false] at hg
          rw [xAd_f (by omega), xSlu_f (by simp only [List.mem_cons, List.not_mem_nil, or_false]; omega)]
        by_cases y : i = 0
        · subst y
          have hjn : j ≠ nn (X 13 0 0 0) := by rw [← hn0]; omega
          rw [if_pos rfl, if_pos rfl, xAd_f (by decide), xAd_f (by decide), xAd_f (by decide), xAd_f (by decide)]
          unfold xSlu
          simp only [bU_ff (show 14 ≠ 13 by decide), bU_ff (show 15 ≠ 13 by decide), bU_ff (show 16 ≠ 13 by decide), bU_ff (show 17 ≠ 13 by decide), bU_i hjn]
        · rw [if_neg y, if_neg y, ef 30 (by decide), ef 31 (by decide), ef 32 (by decide), ef 33 (by decide), ef 34 (by decide), ef 64 (by decide), ef 65 (by decide), ef 66 (by decide), ef 67 (by decide)]
    · rintro t' i j ⟨rfl, rfl, rfl⟩
      rw [a24n, new24]
      exact ⟨hq, hqe, hM⟩
    · rintro t' i j t'' i' j' ⟨rfl, rfl, rfl⟩ ⟨rfl, rfl, rfl⟩ _
      exact ⟨rfl, rfl, rfl⟩
    · rw [a1, xC22_n (cap := cap') (n := xN X 0) (mc := X 68 0 0 0 + 1) (by rw [xAd_68, if_pos rfl]) (by rw [xAd_69, if_pos rfl]) ⟨hc0, a5⟩ hz0, k3]
    · rw [a2.2, xC23_n (ad := ad) (cap := cap') (n := xN X 0) (q := q) (by rw [xAd_69, if_pos rfl]) a5 e2 hz0 (fun k hk => a24 0 k (by omega)) a24n]
  exact kk M' _ _ key (hI.add hL (by rw [xAd_f (by decide), xSlu_f (by decide)]; exact hI.1) (by rw [hN3]; omega) (fun i _ hi => ⟨hzi i hi, hne69 i hi⟩) hz0 (by rw [xAd_69, if_pos rfl]) ⟨a3, a5⟩ h8) fun g g1 g2 => xAd_f ⟨g1, g2⟩
end B77
