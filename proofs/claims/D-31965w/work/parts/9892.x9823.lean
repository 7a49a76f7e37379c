/-! THE CLASS's init: a world in the making, as a ledger of what is there -/
def wMk (M0 M : mM) (am : Nat) (fs : List Value) (l : List (Nat × mE)) (bl : List (Nat × Nat × mE)) : Prop :=
  (∀ p, p ∈ l → M p.1 = some (true, p.2) ∧ p.1 ≠ am) ∧ (∀ p, p ∈ bl → ∀ j, j < p.2.1 → M (p.1 + j) = some (true, p.2.2) ∧ p.1 + j ≠ am) ∧ M am = some (true, .inr (0, fs)) ∧ ∀ a, M0 a ≠ none → a ≠ am → M a = M0 a
section B9892
variable {M0 M : mM} {am : Nat} {fs : List Value} {l : List (Nat × mE)} {bl : List (Nat × Nat × mE)}
theorem wMk.keep (h : wMk M0 M am fs l bl) {M' : mM} {fs' : List Value} (hM : ∀ a, M a ≠ none → a ≠ am → M' a = M a) (ha : M' am = some (true, .inr (0, fs'))) : wMk M0 M' am fs' l bl := by
  obtain ⟨h1, h2, h3, h4⟩ := h
  refine ⟨fun p hp => ?_, fun p hp j hj => ?_, ha, fun a h5 h6 => ?_⟩
  · obtain ⟨a1, a2⟩ := h1 p hp
    exact ⟨by rw [hM _ (by rw [a1]; exact fun z => by cases z) a2]; exact a1, a2⟩
  · obtain ⟨a1, a2⟩ := h2 p hp j hj
    exact ⟨by rw [hM _ (by rw [a1]; exact fun z => by cases z) a2]; exact a1, a2⟩
  · rw [hM a (by rw [h4 a h5 h6]; exact h5) h6, h4 a h5 h6]
/-- what is there lies below what is new -/
theorem wMk.lt (h : wMk M0 M am fs l bl) {q : Nat} (hq : ∀ x, q ≤ x → M x = none) : am < q ∧ (∀ p, p ∈ l → p.1 < q) ∧ ∀ p, p ∈ bl → ∀ j, j < p.2.1 → p.1 + j < q := by
  obtain ⟨h1, h2, h3, h4⟩ := h
  refine ⟨Nat.not_le.mp fun z => ?_, fun p hp => Nat.not_le.mp fun z => ?_, fun p hp j hj => Nat.not_le.mp fun z => ?_⟩
  · rw [hq am z] at h3; cases h3
  · have := (h1 p hp).1
    rw [hq _ z] at this; cases this
  · have := (h2 p hp j hj).1
    rw [hq _ z] at this; cases this
theorem wMk.new (h : wMk M0 M am fs l bl) {q : Nat} (hq : ∀ x, q ≤ x → M x = none) (v : mE) : wMk M0 (mset M q v) am fs ((q, v) :: l) bl := by
  have hlt := (h.lt hq).1
  have hk := h.keep (M' := mset M q v) (fs' := fs) (fun a ha _ => mset_n fun z => ha (by rw [z]; exact hq q (Nat.le_refl _))) (by rw [mset_n (by omega)]; exact h.2.2.1)
  refine ⟨fun p hp => ?_, hk.2⟩
  rcases List.mem_cons.mp hp with rfl | hp
  · exact ⟨mset_s _ _ _, by show q ≠ am; omega⟩
  · exact hk.1 p hp
theorem wMk.fld (h : wMk M0 M am fs l bl) {k : Nat} {v : Value} : wMk M0 (mset M am (.inr (0, fs.set k v))) am (fs.set k v) l bl := h.keep (fun a _ ha => mset_n ha) (mset_s _ _ _)
theorem w_pfq (h : wMk M0 M am fs l bl) {k q : Nat} (hk : k < fs.length) {P : mM → Prop} (kk : ∀ M', wMk M0 M' am (fs.set k (.ref q)) l bl → (∀ a, a ≠ am → M' a = M a) → P M') : pfq M am 0 k (some q) P := ⟨fs, h.2.2.1, hk, kk _ h.fld fun a ha => mset_n ha⟩
theorem w_nwa (h : wMk M0 M am fs l bl) {r t n : Nat} {x : Int32} {y : mX5} (hx : x = Int32.ofNat n) (hn : n ≤ 1000) (hr : n + 1 ≤ r) {K : Nat → mM → Nat → Prop} (kk : ∀ q M', wMk M0 M' am fs ((q, .inl (t, n, y)) :: l) bl → am < q ∧ (∀ p, p ∈ l → p.1 < q) ∧ (∀ p, p ∈ bl → ∀ j, j < p.2.1 → p.1 + j < q) → K q M' (r - (n + 1))) : nwa M r t x y K := by
  subst hx
  have hn31 : (Int32.ofNat n).toNatClampNeg = n := i_nn (by omega)
  refine ⟨Int32.not_lt.mpr ((i_le (a := 0) (by decide) (by omega)).mpr (Nat.zero_le _)), by rw [hn31]; omega, by rw [hn31]; omega, fun q hq => ?_⟩
  rw [hn31]
  exact kk q _ (h.new hq _) (h.lt hq)
theorem w_lst {G : mG} (h : wMk M0 M am fs l bl) {r : Nat} (hr : 4 ≤ r) {K : Nat → mM → Nat → Prop} (kk : ∀ q M', wMk M0 M' am fs ((q, .inr (16, [.int 0, .ref (G.2.2 0), .int 0])) :: l) bl → am < q ∧ (∀ p, p ∈ l → p.1 < q) ∧ (∀ p, p ∈ bl → ∀ j, j < p.2.1 → p.1 + j < q) → K q M' (r - (3 + 1))) : nwo M r 16 3 dfsJ2 fun u17 M18 r19 => wp_J2_init G 0 (fun M20 => K u17 M20 r19) M18 u17 := by
  refine ⟨hr, fun q hq => ?_⟩
  unfold wp_J2_init wp_J1_init_J2 wp_J0_init_J2
  refine ⟨_, mset_s _ _ _, Nat.le_of_ble_eq_true rfl, ?_⟩
  rw [mset_mset]
  refine ⟨_, mset_s _ _ _, Nat.le_of_ble_eq_true rfl, ?_⟩
  rw [mset_mset]
  exact kk q _ (h.new hq _) (h.lt hq)
theorem w_tab (h : wMk M0 M am fs l bl) {r n k : Nat} {x y : Int32} (hx : x = Int32.ofNat n) (hy : y = Int32.ofNat k) (hn : n ≤ 1000 ∧ k ≤ 1000) (hr : 1 + n + n * (k + 1) ≤ r) {K : Nat → mM → Nat → Prop} (kk : ∀ q M', wMk M0 M' am fs ((q, .inl (8, n, mRs fun j => some (q + 1 + j))) :: l) ((q + 1, n, .inl (0, k, mIs fun _ => 0)) :: bl) → am < q ∧ (∀ p, p ∈ l → p.1 < q) ∧ (∀ p, p ∈ bl → ∀ j, j < p.2.1 → p.1 + j < q) → K q M' (r - (1 + n + n * (k + 1)))) : nwm2 M r 8 0 x y K := by
  subst hx
  subst hy
  have hn31 : (Int32.ofNat n).toNatClampNeg = n := i_nn (by omega)
  have hk31 : (Int32.ofNat k).toNatClampNeg = k := i_nn (by omega)
  refine ⟨Int32.not_lt.mpr ((i_le (a := 0) (by decide) (by omega)).mpr (Nat.zero_le _)), Int32.not_lt.mpr ((i_le (a := 0) (by decide) (by omega)).mpr (Nat.zero_le _)), by rw [hn31]; omega, by rw [hk31]; omega, by rw [hn31, hk31]; exact hr, fun q hq => ?_⟩
  rw [hn31, hk31]
  have hlt := h.lt hq
  have e1 : mN2 M q 8 0 n k q = some (true, .inl (8, n, mRs fun j => some (q + 1 + j))) := if_pos rfl
  have e2 : ∀ j, j < n → mN2 M q 8 0 n k (q + 1 + j) = some (true, .inl (0, k, mIs fun _ => 0)) := fun j hj => by
    unfold mN2
    rw [if_neg (by omega), if_pos (by omega)]
  have e3 : ∀ a, a < q → mN2 M q 8 0 n k a = M a := fun a ha => by
    unfold mN2
    rw [if_neg (by omega), if_neg (by omega)]
  have hk := h.keep (M' := mN2 M q 8 0 n k) (fs' := fs) (fun a ha _ => e3 a (Nat.not_le.mp fun z => ha (hq a z))) (by rw [e3 _ hlt.1]; exact h.2.2.1)
  refine kk q _ ⟨fun p hp => ?_, fun p hp j hj => ?_, hk.2.2⟩ hlt
  · rcases List.mem_cons.mp hp with rfl | hp
    · exact ⟨e1, by show q ≠ am; omega⟩
    · exact hk.1 p hp
  · rcases List.mem_cons.mp hp with rfl | hp
    · exact ⟨e2 j hj, by show q + 1 + j ≠ am; omega⟩
    · exact hk.2.1 p hp j hj
end B9892
section B9892b
variable {M0 M : mM} {am : Nat} {fs : List Value} {l : List (Nat × mE)} {bl : List (Nat × Nat × mE)}
theorem wMk.sub (h : wMk M0 M am fs l bl) {l' : List (Nat × mE)} (hs : ∀ p, p ∈ l' → p ∈ l) : wMk M0 M am fs l' bl := ⟨fun p hp => h.1 p (hs p hp), h.2⟩
/-- another content at an address of the ledger -/
theorem wMk.set {u : Nat} {v : mE} (h : wMk M0 M am fs ((u, v) :: l) bl) (hd : ∀ p, p ∈ l → p.1 ≠ u) (hb : ∀ p, p ∈ bl → ∀ j, j < p.2.1 → p.1 + j ≠ u) (h0 : M0 u = none) (v' : mE) : wMk M0 (mset M u v') am fs ((u, v') :: l) bl := by
  obtain ⟨h1, h2, h3, h4⟩ := h
  have hua := (h1 _ (List.mem_cons_self)).2
  refine ⟨fun p hp => ?_, fun p hp j hj => ?_, by rw [mset_n (Ne.symm hua)]; exact h3, fun a h5 h6 => ?_⟩
  · rcases List.mem_cons.mp hp with rfl | hp
    · exact ⟨mset_s _ _ _, hua⟩
    · obtain ⟨a1, a2⟩ := h1 p (List.mem_cons_of_mem _ hp)
      exact ⟨by rw [mset_n (hd p hp)]; exact a1, a2⟩
  · obtain ⟨a1, a2⟩ := h2 p hp j hj
    exact ⟨by rw [mset_n (hb p hp j hj)]; exact a1, a2⟩
  · exact (mset_n fun z => h5 (by rw [z]; exact h0)).trans (h4 a h5 h6)
/-- another content at an address of a block -/
theorem wMk.setB {u n i : Nat} {v : mE} (h : wMk M0 M am fs l bl) {g : Nat → mE} (hg : ∀ j, j < n → M (u + j) = some (true, g j) ∧ u + j ≠ am) (hi : i < n) (hd : ∀ p, p ∈ l → ∀ j, j < n → p.1 ≠ u + j) (hb : ∀ p, p ∈ bl → ∀ j, j < p.2.1 → ∀ k, k < n → p.1 + j ≠ u + k) (h0 : ∀ j, j < n → M0 (u + j) = none) : wMk M0 (mset M (u + i) v) am fs l bl ∧ ∀ j, j < n → mset M (u + i) v (u + j) = some (true, if j = i then v else g j) ∧ u + j ≠ am := by
  obtain ⟨h1, h2, h3, h4⟩ := h
  refine ⟨⟨fun p hp => ?_, fun p hp j hj => ?_, by rw [mset_n (Ne.symm (hg i hi).2)]; exact h3, fun a h5 h6 => ?_⟩, fun j hj => ⟨?_, (hg j hj).2⟩⟩
  · obtain ⟨a1, a2⟩ := h1 p hp
    exact ⟨by rw [mset_n (hd p hp i hi)]; exact a1, a2⟩
  · obtain ⟨a1, a2⟩ := h2 p hp j hj
    exact ⟨by rw [mset_n (hb p hp j hj i hi)]; exact a1, a2⟩
  · exact (mset_n fun z => h5 (by rw [z]; exact h0 i hi)).trans (h4 a h5 h6)
  · by_cases z : j = i
    · rw [if_pos z, z, mset_s]
    · rw [if_neg z, mset_n (by omega)]
      exact (hg j hj).1
end B9892b
