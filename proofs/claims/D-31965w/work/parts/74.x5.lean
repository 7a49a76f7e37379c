/-! WRITES into the class's world -/
theorem xR_t {f t0 t : Nat} (hd : ∀ t, t < 41 → f ∈ xR t → t = t0) (h : f ∈ xR t) : t = t0 := by
  rcases Nat.lt_or_ge t 41 with z | z
  · exact hd t z h
  · rw [xR_big z] at h
    exact absurd h (by simp)
section B74
variable {κ : xK} {M : mM} {ad : xA} {X : bS}
theorem xL_U {f i j k : Nat} {x : Int32} (hf : f ∉ [13, 24, 27, 28, 35, 69]) (t a c : Nat) : xL (bU X f i j k x) t a c ↔ xL X t a c := xL_of (fun g hg => bU_ff (show g ≠ f from fun z => hf (z ▸ hg))) t a c
theorem xO_U {f i j k : Nat} {x : Int32} (hf : f ∉ [13, 24, 27, 28, 35, 69]) {a : Nat} (h : xO κ ad X a) : xO κ ad (bU X f i j k x) a := ⟨fun t i' j' hl => h.1 t i' j' ((xL_U hf t i' j').mp hl), h.2⟩
theorem rX.putU (h : rX κ M ad X) {t0 i0 j0 f i j k : Nat} {x : Int32} (hl : xL X t0 i0 j0) (hd : ∀ t, t < 41 → f ∈ xR t → t = t0) (hf : f ∉ [13, 24, 27, 28, 35, 69]) {v : mE} (hv : v = xC κ.2.1 ad (bU X f i j k x) t0 i0 j0) (ho : ∀ i' j', xL X t0 i' j' → ¬ (i' = i0 ∧ j' = j0) → xC κ.2.1 ad (bU X f i j k x) t0 i' j' = xC κ.2.1 ad X t0 i' j') : rX κ (mset M (ad t0 i0 j0) v) ad (bU X f i j k x) := by
  refine h.put hl hv (fun t a c => (xL_U hf t a c).mp) fun t' i' j' hl' hn => ?_
  by_cases z : t' = t0
  · subst z
    exact ho i' j' hl' fun y => hn ⟨rfl, y.1, y.2⟩
  · exact xC_of hl' fun g hg => bU_ff (show g ≠ f from fun y => z (xR_t hd (y ▸ hg)))
theorem rX.putU0 (h : rX κ M ad X) {t0 f i j k : Nat} {x : Int32} (h0 : t0 ∈ [0, 1, 2, 3, 8, 9, 10, 11, 12, 29, 40]) (hd : ∀ t, t < 41 → f ∈ xR t → t = t0) (hf : f ∉ [13, 24, 27, 28, 35, 69]) {v : mE} (hv : v = xC κ.2.1 ad (bU X f i j k x) t0 0 0) : rX κ (mset M (ad t0 0 0) v) ad (bU X f i j k x) := by
  refine h.putU (xl0 h0) hd hf hv fun i' j' hl hn => ?_
  refine absurd ?_ hn
  simp only [List.mem_cons, List.not_mem_nil, or_false] at h0
  rcases hl with z | z | z | z | z | z | z | z | z | z <;> first | exact ⟨z.2.1, z.2.2⟩ | omega
theorem x_st8 (h : rX κ M ad X) {i v : Int32} (hi : vp_in i 4) {K : mM → Prop} (kk : ∀ M', rX κ M' ad (bU X 8 (nn i) 0 0 v) → (∀ a, xO κ ad X a → M' a = M a) → K M') : sti M 0 (ad 2 0 0) i v K := by
  refine ⟨4, fun c => X 8 c 0 0, h.at (xl0 (by decide)), hi, kk _ (h.putU0 (by decide) (by decide) (by decide) ?_) fun a ha => mset_n (Ne.symm (ha.1 _ _ _ (xl0 (by decide))))⟩
  exact congrArg (fun g => (Sum.inl (0, 4, mIs g) : mE)) bU_up1.symm
theorem x_st9 (h : rX κ M ad X) {i v : Int32} (hi : vp_in i 4) {K : mM → Prop} (kk : ∀ M', rX κ M' ad (bU X 9 (nn i) 0 0 v) → (∀ a, xO κ ad X a → M' a = M a) → K M') : sti M 0 (ad 3 0 0) i v K := by
  refine ⟨4, fun c => X 9 c 0 0, h.at (xl0 (by decide)), hi, kk _ (h.putU0 (by decide) (by decide) (by decide) ?_) fun a ha => mset_n (Ne.symm (ha.1 _ _ _ (xl0 (by decide))))⟩
  exact congrArg (fun g => (Sum.inl (0, 4, mIs g) : mE)) bU_up1.symm
/-- the object's own numbers -/
theorem x_pmain (h : rX κ M ad X) {k f : Nat} (hkf : (k = 13 ∧ f = 20) ∨ (k = 14 ∧ f = 21) ∨ (k = 15 ∧ f = 29) ∨ (k = 16 ∧ f = 1) ∨ (k = 17 ∧ f = 2)) {v : Int32} {K : mM → Prop} (kk : ∀ M', rX κ M' ad (bU X f 0 0 0 v) → (∀ a, xO κ ad X a → M' a = M a) → K M') : pfi M κ.2.2.1 0 k v K := by
  have ho : ∀ v', ∀ a, xO κ ad X a → mset M κ.2.2.1 v' a = M a := fun v' a ha => mset_n fun z => ha.1 40 0 0 (xl0 (by decide)) (by rw [h.am, z])
  refine ⟨_, h.main, by rcases hkf with z | z | z | z | z <;> rw [z.1] <;> exact Nat.le_of_ble_eq_true rfl, kk _ ?_ (ho _)⟩
  rw [← h.am]
  rcases hkf with ⟨rfl, rfl⟩ | ⟨rfl, rfl⟩ | ⟨rfl, rfl⟩ | ⟨rfl, rfl⟩ | ⟨rfl, rfl⟩ <;> exact h.putU0 (t0 := 40) (by decide) (by decide) (by decide) rfl
/-- a cell's numbers -/
theorem x_pcell (h : rX κ M ad X) {c k f : Nat} (hc : c < 36) (hkf : (k = 0 ∧ f = 3) ∨ (k = 1 ∧ f = 4) ∨ (k = 2 ∧ f = 5) ∨ (k = 3 ∧ f = 60) ∨ (k = 4 ∧ f = 61)) {v : Int32} {K : mM → Prop} (kk : ∀ M', rX κ M' ad (bU X f c 0 0 v) → (∀ a, xO κ ad X a → M' a = M a) → K M') : pfi M (ad 20 c 0) 1 k v K := by
  refine ⟨_, h.at (xl20 hc), by rcases hkf with z | z | z | z | z <;> rw [z.1] <;> exact Nat.le_of_ble_eq_true rfl, kk _ ?_ fun a ha => mset_n (Ne.symm (ha.1 _ _ _ (xl20 hc)))⟩
  have go : ∀ {f : Nat} {v' : mE}, f ∈ [3, 4, 5, 60, 61] → v' = xC κ.2.1 ad (bU X f c 0 0 v) 20 c 0 → rX κ (mset M (ad 20 c 0) v') ad (bU X f c 0 0 v) := by
    intro f v' hf hv
    refine h.putU (xl20 hc) ?_ ?_ hv fun i' j' hl hn => ?_
    · simp only [List.mem_cons, List.not_mem_nil, or_false] at hf
      rcases hf with rfl | rfl | rfl | rfl | rfl <;> decide
    · simp only [List.mem_cons, List.not_mem_nil, or_false] at hf ⊢
      omega
    · have hj : j' = 0 := by
        rcases hl with z | z | z | z | z | z | z | z | z | z <;> first | exact z.2.2 | omega
      subst hj
      have hi : i' ≠ c := fun z => hn ⟨z, rfl⟩
      show (Sum.inr (1, [.int (bU X f c 0 0 v 3 i' 0 0), .int (bU X f c 0 0 v 4 i' 0 0), .int (bU X f c 0 0 v 5 i' 0 0), .int (bU X f c 0 0 v 60 i' 0 0), .int (bU X f c 0 0 v 61 i' 0 0)]) : mE) = Sum.inr (1, [.int (X 3 i' 0 0), .int (X 4 i' 0 0), .int (X 5 i' 0 0), .int (X 60 i' 0 0), .int (X 61 i' 0 0)])
      simp only [bU_i hi]
  rcases hkf with ⟨rfl, rfl⟩ | ⟨rfl, rfl⟩ | ⟨rfl, rfl⟩ | ⟨rfl, rfl⟩ | ⟨rfl, rfl⟩ <;> refine go (by decide) ?_
  · show (Sum.inr (1, [.int v, .int (X 4 c 0 0), .int (X 5 c 0 0), .int (X 60 c 0 0), .int (X 61 c 0 0)]) : mE) = Sum.inr (1, [.int (bU X 3 c 0 0 v 3 c 0 0), .int (bU X 3 c 0 0 v 4 c 0 0), .int (bU X 3 c 0 0 v 5 c 0 0), .int (bU X 3 c 0 0 v 60 c 0 0), .int (bU X 3 c 0 0 v 61 c 0 0)])
    rw [bU_s, bU_f (by decide), bU_f (by decide), bU_f (by decide), bU_f (by decide)]
  · show (Sum.inr (1, [.int (X 3 c 0 0), .int v, .int (X 5 c 0 0), .int (X 60 c 0 0), .int (X 61 c 0 0)]) : mE) = Sum.inr (1, [.int (bU X 4 c 0 0 v 3 c 0 0), .int (bU X 4 c 0 0 v 4 c 0 0), .int (bU X 4 c 0 0 v 5 c 0 0), .int (bU X 4 c 0 0 v 60 c 0 0), .int (bU X 4 c 0 0 v 61 c 0 0)])
    rw [bU_s, bU_f (by decide), bU_f (by decide), bU_f (by decide), bU_f (by decide)]
  · show (Sum.inr (1, [.int (X 3 c 0 0), .int (X 4 c 0 0), .int v, .int (X 60 c 0 0), .int (X 61 c 0 0)]) : mE) = Sum.inr (1, [.int (bU X 5 c 0 0 v 3 c 0 0), .int (bU X 5 c 0 0 v 4 c 0 0), .int (bU X 5 c 0 0 v 5 c 0 0), .int (bU X 5 c 0 0 v 60 c 0 0), .int (bU X 5 c 0 0 v 61 c 0 0)])
    rw [bU_s, bU_f (by decide), bU_f (by decide), bU_f (by decide), bU_f (by decide)]
  · show (Sum.inr (1, [.int (X 3 c 0 0), .int (X 4 c 0 0), .int (X 5 c 0 0), .int v, .int (X 61 c 0 0)]) : mE) = Sum.inr (1, [.int (bU X 60 c 0 0 v 3 c 0 0), .int (bU X 60 c 0 0 v 4 c 0 0), .int (bU X 60 c 0 0 v 5 c 0 0), .int (bU X 60 c 0 0 v 60 c 0 0), .int (bU X 60 c 0 0 v 61 c 0 0)])
    rw [bU_s, bU_f (by decide), bU_f (by decide), bU_f (by decide), bU_f (by decide)]
  · show (Sum.inr (1, [.int (X 3 c 0 0), .int (X 4 c 0 0), .int (X 5 c 0 0), .int (X 60 c 0 0), .int v]) : mE) = Sum.inr (1, [.int (bU X 61 c 0 0 v 3 c 0 0), .int (bU X 61 c 0 0 v 4 c 0 0), .int (bU X 61 c 0 0 v 5 c 0 0), .int (bU X 61 c 0 0 v 60 c 0 0), .int (bU X 61 c 0 0 v 61 c 0 0)])
    rw [bU_s, bU_f (by decide), bU_f (by decide), bU_f (by decide), bU_f (by decide)]
/-- a kind's numbers -/
theorem x_pkind (h : rX κ M ad X) {c k f : Nat} (hc : c < 4) (hkf : (k = 0 ∧ f = 10) ∨ (k = 1 ∧ f = 11) ∨ (k = 2 ∧ f = 12)) {v : Int32} {K : mM → Prop} (kk : ∀ M', rX κ M' ad (bU X f c 0 0 v) → (∀ a, xO κ ad X a → M' a = M a) → K M') : pfi M (ad 21 c 0) 2 k v K := by
  refine ⟨_, h.at (xl21 hc), by rcases hkf with z | z | z <;> rw [z.1] <;> exact Nat.le_of_ble_eq_true rfl, kk _ ?_ fun a ha => mset_n (Ne.symm (ha.1 _ _ _ (xl21 hc)))⟩
  have go : ∀ {f : Nat} {v' : mE}, f ∈ [10, 11, 12] → v' = xC κ.2.1 ad (bU X f c 0 0 v) 21 c 0 → rX κ (mset M (ad 21 c 0) v') ad (bU X f c 0 0 v) := by
    intro f v' hf hv
    refine h.putU (xl21 hc) ?_ ?_ hv fun i' j' hl hn => ?_
    · simp only [List.mem_cons, List.not_mem_nil, or_false] at hf
      rcases hf with rfl | rfl | rfl <;> decide
    · simp only [List.mem_cons, List.not_mem_nil, or_false] at hf ⊢
      omega
    · have hj : j' = 0 := by
        rcases hl with z | z | z | z | z | z | z | z | z | z <;> first | exact z.2.2 | omega
      subst hj
      have hi : i' ≠ c := fun z => hn ⟨z, rfl⟩
      show (Sum.inr (2, [.int (bU X f c 0 0 v 10 i' 0 0), .int (bU X f c 0 0 v 11 i' 0 0), .int (bU X f c 0 0 v 12 i' 0 0)]) : mE) = Sum.inr (2, [.int (X 10 i' 0 0), .int (X 11 i' 0 0), .int (X 12 i' 0 0)])
      simp only [bU_i hi]
  rcases hkf with ⟨rfl, rfl⟩ | ⟨rfl, rfl⟩ | ⟨rfl, rfl⟩ <;> refine go (by decide) ?_
  · show (Sum.inr (2, [.int v, .int (X 11 c 0 0), .int (X 12 c 0 0)]) : mE) = Sum.inr (2, [.int (bU X 10 c 0 0 v 10 c 0 0), .int (bU X 10 c 0 0 v 11 c 0 0), .int (bU X 10 c 0 0 v 12 c 0 0)])
    rw [bU_s, bU_f (by decide), bU_f (by decide)]
  · show (Sum.inr (2, [.int (X 10 c 0 0), .int v, .int (X 12 c 0 0)]) : mE) = Sum.inr (2, [.int (bU X 11 c 0 0 v 10 c 0 0), .int (bU X 11 c 0 0 v 11 c 0 0), .int (bU X 11 c 0 0 v 12 c 0 0)])
    rw [bU_s, bU_f (by decide), bU_f (by decide)]
  · show (Sum.inr (2, [.int (X 10 c 0 0), .int (X 11 c 0 0), .int v]) : mE) = Sum.inr (2, [.int (bU X 12 c 0 0 v 10 c 0 0), .int (bU X 12 c 0 0 v 11 c 0 0), .int (bU X 12 c 0 0 v 12 c 0 0)])
    rw [bU_s, bU_f (by decide), bU_f (by decide)]
/-- the law's own array -/
def xOut (κ : xK) (M : mM) (v : Int64) : Prop := ∃ f, M κ.2.2.2 = some (true, .inl (4, 1, .inr (.inl f))) ∧ f 0 = v
theorem x_out (h : rX κ M ad X) {v : Int64} {K : mM → Prop} (kk : ∀ M', rX κ M' ad X → xOut κ M' v → K M') : stl M 4 κ.2.2.2 0 v K := by
  obtain ⟨h1, h2, h3, h4, ⟨f, h5⟩, h6⟩ := h
  refine ⟨1, f, h5, by rintro (z | z) <;> exact absurd z (by decide), kk _ ⟨fun t i j hl => by rw [mset_n (h6 t i j hl)]; exact h1 t i j hl, h2, fun a x hx => ?_, h4, ⟨_, mset_s _ _ _⟩, h6⟩ ⟨_, mset_s _ _ _, ?_⟩⟩
  · rw [mset_n fun z => ?_]
    · exact h3 a x hx
    · have := h3 a x hx
      rw [z, h5] at this
      cases this
  · show vp_updL f (0 : Int32).toNatClampNeg v 0 = v
    exact if_pos rfl
end B74
