/-! THE CLASS's addWalker -/
def rowN (k c : Nat) : Int32 := if c < k then -1 else 0
theorem rowN_s (k : Nat) : upd (rowN k) k (-1) = rowN (k + 1) := by
  refine (upd_ext ?_ fun j hj => ?_).symm
  · exact if_pos (Nat.lt_succ_self k)
  · unfold rowN
    by_cases z : j < k
    · rw [if_pos z, if_pos (by omega)]
    · rw [if_neg z, if_neg (by omega)]
def flS (r k r' : Nat) : Nat → Int32 := if r' < r then rowN 36 else if r' = r then rowN k else rowN 0
def flM (M0 : mM) (q r k : Nat) (M : mM) : Prop := (∀ a, (a ≤ q ∨ q + 40 < a) → M a = M0 a) ∧ ∀ r', r' < 40 → M (q + 1 + r') = some (true, .inl (2, 36, mIs (flS r k r')))
def xWkr (X : bS) : bS := fun f i j k => if f = 63 ∧ i = xN X 2 then rowN 36 k else if f = 27 then X 27 0 0 0 + 1 else X f i j k
theorem xWkr_f {X : bS} {f : Nat} (h : f ≠ 63 ∧ f ≠ 27) : xWkr X f = X f := by
  funext i j k
  unfold xWkr
  rw [if_neg fun z => h.1 z.1, if_neg h.2]
section B91
variable {G : mG} {b : Nat} {κ : xK} {M : mM} {ad : xA} {X : bS}
theorem rX.more (h : rX κ M ad X) {M' : mM} (hM : ∀ a, M a ≠ none → M' a = M a) : rX κ M' ad X := by
  obtain ⟨h1, h2, h3, h4, ⟨f, h5⟩, h6⟩ := h
  have up : ∀ {a v}, M a = some v → M' a = some v := fun {a v} hv => by rw [hM a (by rw [hv]; exact fun z => by cases z), hv]
  exact ⟨fun t i j hl => up (h1 t i j hl), h2, fun a x hx => up (h3 a x hx), h4, ⟨f, up h5⟩, h6⟩
theorem x_fl39 {P : mM → Prop} {K26 : Nat → mM → Nat → Int32 → Int32 → Prop} {M0 : mM} {q r : Nat} (hr : r < 40) : ∀ (n k p : Nat) (M : mM), k + n = 36 → n < p → flM M0 q r k M → (∀ M', flM M0 q r 36 M' → K26 b M' q 40 (Int32.ofNat r + 1)) → wl_X16_init_39 G P K26 p b M q 40 (Int32.ofNat r) (q + 1 + r) (Int32.ofNat k)
  | _, _, 0, _, _, hp, _, _ => absurd hp (Nat.not_lt_zero _)
  | 0, k, p + 1, M, hk, _, h, kk => by
    have : k = 36 := by omega
    subst this
    unfold wl_X16_init_39
    exact ⟨fun _ => kk M h, fun z => absurd (by decide) z⟩
  | n + 1, k, p + 1, M, hk, hp, h, kk => by
    have ek : (Int32.ofNat k).toNatClampNeg = k := i_nn (by omega)
    unfold wl_X16_init_39
    refine ⟨fun z => absurd ((i_le (a := 36) (by decide) (by omega)).mp z) (by omega), fun _ => ⟨36, _, h.2 r hr, i_vp (by omega) (by omega), ?_⟩⟩
    rw [i_s, ek]
    refine x_fl39 hr n (k + 1) p _ (by omega) (by omega) ⟨fun a ha => ?_, fun r' hr' => ?_⟩ kk
    · rw [mset_n (by omega)]
      exact h.1 a ha
    · by_cases z : r' = r
      · subst z
        rw [mset_s]
        have e1 : flS r' k r' = rowN k := by unfold flS; rw [if_neg (by omega), if_pos rfl]
        have e2 : flS r' (k + 1) r' = rowN (k + 1) := by unfold flS; rw [if_neg (by omega), if_pos rfl]
        have e3 : vp_nar .short (-1) = -1 := rfl
        rw [e1, e2, e3, rowN_s]
      · rw [mset_n (by omega), h.2 r' hr']
        have : flS r k r' = flS r (k + 1) r' := by unfold flS; rw [if_neg z, if_neg z]
        rw [this]
theorem x_fl26 {P : mM → Prop} {M0 : mM} {q : Nat} (hq : M0 q = some (true, .inl (11, 40, mRs fun j => some (q + 1 + j)))) : ∀ (n r p : Nat) (M : mM), r + n = 40 → n < p → flM M0 q r 0 M → (∀ M', flM M0 q 40 0 M' → P M') → wl_X16_init_26 G P p b M q 40 (Int32.ofNat r)
  | _, _, 0, _, _, hp, _, _ => absurd hp (Nat.not_lt_zero _)
  | 0, r, p + 1, M, hr, _, h, kk => by
    have : r = 40 := by omega
    subst this
    unfold wl_X16_init_26
    exact ⟨fun _ => kk M h, fun z => absurd (by decide) z⟩
  | n + 1, r, p + 1, M, hr, hp, h, kk => by
    have er : (Int32.ofNat r).toNatClampNeg = r := i_nn (by omega)
    unfold wl_X16_init_26
    refine ⟨fun z => absurd ((i_le (a := 40) (by decide) (by omega)).mp z) (by omega), fun _ => lda_ (v := q + 1 + r) (by rw [h.1 q (Or.inl (Nat.le_refl _))]; exact hq) (i_vp (by omega) (by omega)) (by rw [er]) ⟨37, ?_⟩⟩
    refine x_fl39 (by omega) 36 0 37 M (by omega) (by omega) h fun M1 h1 => ?_
    rw [i_s]
    refine x_fl26 hq n (r + 1) p M1 (by omega) (by omega) ⟨h1.1, fun r' hr' => ?_⟩ kk
    rw [h1.2 r' hr']
    have : flS r 36 r' = flS (r + 1) 0 r' := by
      unfold flS
      by_cases z : r' < r
      · rw [if_pos z, if_pos (by omega)]
      · by_cases y : r' = r
        · rw [if_neg z, if_pos y, if_pos (by omega)]
        · rw [if_neg z, if_neg y, if_neg (by omega)]
          by_cases w : r' = r + 1
          · rw [if_pos w]
          · rw [if_neg w]
    rw [this]
theorem x_iniW {P : mM → Prop} {u : Nat} (hu : M u = some (true, .inr (13, dfsX16))) (hb : 1521 ≤ b) (kk : ∀ q M', (∀ x, q ≤ x → M x = none) → q ≠ u → M' u = some (true, .inr (13, [.ref q])) → M' q = some (true, .inl (11, 40, mRs fun j => some (q + 1 + j))) → (∀ r, r < 40 → M' (q + 1 + r) = some (true, .inl (2, 36, mIs (rowN 36)))) → (∀ a, a ≠ u → M a ≠ none → M' a = M a) → P M') : wp_X16_init G b P M u := by
  unfold wp_X16_init
  refine ⟨by decide, by decide, by decide, by decide, by show 1 + 40 + 40 * (36 + 1) ≤ b; omega, fun q hq => ?_⟩
  show pfq (mN2 M q 11 2 40 36) u 13 0 (some q) _
  have huq : u < q := by
    rcases Nat.lt_or_ge u q with z | z
    · exact z
    · rw [hq u z] at hu
      cases hu
  have e1 : mN2 M q 11 2 40 36 u = some (true, .inr (13, dfsX16)) := by
    unfold mN2
    rw [if_neg (by omega), if_neg (by omega)]
    exact hu
  have e2 : mN2 M q 11 2 40 36 q = some (true, .inl (11, 40, mRs fun j => some (q + 1 + j))) := if_pos rfl
  have e3 : ∀ r, r < 40 → mN2 M q 11 2 40 36 (q + 1 + r) = some (true, .inl (2, 36, mIs (rowN 0))) := fun r hr => by
    unfold mN2
    rw [if_neg (by omega), if_pos (by omega)]
    have : rowN 0 = fun _ => 0 := funext fun c => if_neg (Nat.not_lt_zero c)
    rw [this]
  have e4 : ∀ a, a < q → mN2 M q 11 2 40 36 a = M a := fun a ha => by
    unfold mN2
    rw [if_neg (by omega), if_neg (by omega)]
  refine ⟨_, e1, Nat.le_of_ble_eq_true rfl, ?_⟩
  generalize hM2 : mset (mN2 M q 11 2 40 36) u (.inr (13, List.set dfsX16 0 (va_rf (some q)))) = M2
  have u2 : M2 u = some (true, .inr (13, [.ref q])) := by rw [← hM2, mset_s]; rfl
  have o2 : ∀ a, a ≠ u → M2 a = mN2 M q 11 2 40 36 a := fun a ha => by rw [← hM2, mset_n ha]
  have q2 : M2 q = some (true, .inl (11, 40, mRs fun j => some (q + 1 + j))) := by rw [o2 q (by omega)]; exact e2
  refine gfa_ u2 rfl (aln_ q2 (by decide) ⟨41, ?_⟩)
  refine x_fl26 q2 40 0 41 M2 (by omega) (by omega) ⟨fun _ _ => rfl, fun r hr => ?_⟩ fun M' h' => ?_
  · rw [o2 _ (by omega), e3 r hr]
    have : flS 0 0 r = rowN 0 := by
      unfold flS
      rw [if_neg (by omega)]
      split <;> rfl
    rw [this]
  · refine kk q M' hq (by omega) ?_ ?_ (fun r hr => ?_) fun a ha hn => ?_
    · rw [h'.1 u (Or.inl (by omega))]; exact u2
    · rw [h'.1 q (Or.inl (Nat.le_refl _))]; exact q2
    · rw [h'.2 r hr]
      have : flS 40 0 r = rowN 36 := if_pos hr
      rw [this]
    · have hlt : a < q := by
        rcases Nat.lt_or_ge a q with z | z
        · exact z
        · exact absurd (hq a z) hn
      rw [h'.1 a (Or.inl (by omega)), o2 a ha, e4 a hlt]
theorem xWkr_Z {X : bS} {i : Nat} (hi : i ≠ 2) : xZ (xWkr X) i = xZ X i := by
  unfold xZ
  rw [xWkr_f (f := 13) (by decide), xWkr_f (f := 24) (by decide), xWkr_f (f := 28) (by decide), xWkr_f (f := 35) (by decide), if_neg hi, if_neg hi]
theorem x_pushW (h : rX κ M ad X) (hI : xI X) (hG : κ.2.1 = G.2.2 0) (hC : κ.1 (G.2.2 0) = some (false, .inl (5, 0, mRs fun _ => none))) (h6 : xN X 2 < 6) {u q : Nat} (hu : M u = some (true, .inr (13, [.ref q]))) (hq : M q = some (true, .inl (11, 40, mRs fun j => some (q + 1 + j)))) (hr : ∀ r, r < 40 → M (q + 1 + r) = some (true, .inl (2, 36, mIs (rowN 36)))) (ou : xO κ ad X u) (oq : xO κ ad X q) (orr : ∀ r, r < 40 → xO κ ad X (q + 1 + r)) (hb : 310 ≤ b) {K : Int32 → mM → Prop} (kk : ∀ M' ad' X', rX κ M' ad' X' → xI X' → xE (xWkr X) X' → K 1 M') : wp_J2_add G b K M (ad 22 2 0) u := by
  have hL : 2 < 4 + xN X 3 := by omega
  obtain ⟨e0, e2⟩ := hI.z hL
  have hz : xZ (xWkr X) 2 = Int32.ofNat (xN X 2 + 1) := by
    rw [← i_s, ← e0]
    show xWkr X 27 0 0 0 = X 27 0 0 0 + 1
    unfold xWkr
    rw [if_neg fun z => absurd z.1 (by decide), if_pos rfl]
  have hN2 : xN (xWkr X) 2 = xN X 2 + 1 := by unfold xN; rw [hz]; exact i_nn (by unfold xN at h6; omega)
  have hNi : ∀ i, i ≠ 2 → xN (xWkr X) i = xN X i := fun i hi => by unfold xN; rw [xWkr_Z hi]
  have e69 : xWkr X 69 = X 69 := xWkr_f (by decide)
  let ad1 : xA := fun t i j => if t = 24 ∧ i = 2 ∧ j = xN X 2 then u else if t = 26 ∧ i = xN X 2 ∧ j = 0 then q else if t = 27 ∧ i = xN X 2 then q + 1 + j else ad t i j
  have ar : ∀ t', t' ∉ [22, 23, 24, 25, 26, 27] → ad1 t' = ad t' := fun t' ht => by
    simp only [List.mem_cons, List.not_mem_nil, or_false] at ht
    funext i j
    show (if t' = 24 ∧ i = 2 ∧ j = xN X 2 then u else if t' = 26 ∧ i = xN X 2 ∧ j = 0 then q else if t' = 27 ∧ i = xN X 2 then q + 1 + j else ad t' i j) = _
    rw [if_neg (by omega), if_neg (by omega), if_neg (by omega)]
  have ao : ∀ t i j, xL X t i j → ad1 t i j = ad t i j := fun t i j hl => by
    show (if t = 24 ∧ i = 2 ∧ j = xN X 2 then u else if t = 26 ∧ i = xN X 2 ∧ j = 0 then q else if t = 27 ∧ i = xN X 2 then q + 1 + j else ad t i j) = _
    have n1 : ¬ (t = 24 ∧ i = 2 ∧ j = xN X 2) := by
      rintro ⟨rfl, rfl, rfl⟩
      rcases hl with z | z | z | z | z | z | z | z | z | z <;> first | omega | (have z := z.1; simp at z)
    have n2 : ¬ (t = 26 ∧ i = xN X 2 ∧ j = 0) := by
      rintro ⟨rfl, rfl, rfl⟩
      rcases hl with z | z | z | z | z | z | z | z | z | z <;> first | omega | (have z := z.1; simp at z)
    have n3 : ¬ (t = 27 ∧ i = xN X 2) := by
      rintro ⟨rfl, rfl⟩
      rcases hl with z | z | z | z | z | z | z | z | z | z <;> first | omega | (have z := z.1; simp at z)
    rw [if_neg n1, if_neg n2, if_neg n3]
  have au : ad1 24 2 (xN X 2) = u := if_pos ⟨rfl, rfl, rfl⟩
  have aq : ad1 26 (xN X 2) 0 = q := by
    show (if _ then u else if _ then q else _) = q
    rw [if_neg (by omega), if_pos ⟨rfl, rfl, rfl⟩]
  have a27 : ∀ j, ad1 27 (xN X 2) j = q + 1 + j := fun j => by
    show (if _ then u else if _ then q else if _ then q + 1 + j else _) = q + 1 + j
    rw [if_neg (by omega), if_neg (by omega), if_pos ⟨rfl, rfl⟩]
  have huq : u ≠ q := fun z => by rw [z, hq] at hu; cases hu
  have hur : ∀ r, r < 40 → u ≠ q + 1 + r := fun r hr' z => by rw [z, hr r hr'] at hu; cases hu
  refine x_push h hI hG hC hL (by omega) (X1 := xWkr X) (ad1 := ad1) (fun t i j => (t = 24 ∧ i = 2 ∧ j = xN X 2) ∨ (t = 26 ∧ i = xN X 2 ∧ j = 0) ∨ (t = 27 ∧ i = xN X 2 ∧ j < 40)) hb (fun t i j hl => ?_) (fun t i j hl => ⟨ao t i j hl, fun h22 h23 => ?_⟩) (fun t i j hN => ?_) (fun t i j t' i' j' hN hN' he => ?_) hz ⟨?_, fun i hi hi2 => ?_⟩ au ⟨true, 13, _, hu⟩ fun M' a' X' y1 y2 y3 _ => kk M' a' X' y1 y2 y3
  · unfold xL at hl ⊢
    rw [hNi 3 (by decide), hNi 1 (by decide), hN2, e69] at hl
    rcases hl with z | z | z | z | z | z | z | z | z | z
    · exact Or.inl (Or.inl z)
    · exact Or.inl (Or.inr (Or.inl z))
    · exact Or.inl (Or.inr (Or.inr (Or.inl z)))
    · exact Or.inl (Or.inr (Or.inr (Or.inr (Or.inl z))))
    · exact Or.inl (Or.inr (Or.inr (Or.inr (Or.inr (Or.inl z)))))
    · by_cases y : i = 2
      · subst y
        rw [hN2] at z
        by_cases w : j = xN X 2
        · exact Or.inr (Or.inl ⟨z.1, rfl, w⟩)
        · exact Or.inl (Or.inr (Or.inr (Or.inr (Or.inr (Or.inr (Or.inl ⟨z.1, z.2.1, by omega⟩))))))
      · rw [hNi i y] at z
        exact Or.inl (Or.inr (Or.inr (Or.inr (Or.inr (Or.inr (Or.inl z))))))
    · exact Or.inl (Or.inr (Or.inr (Or.inr (Or.inr (Or.inr (Or.inr (Or.inl z)))))))
    · by_cases w : i = xN X 2
      · exact Or.inr (Or.inr (Or.inl ⟨z.1, w, z.2.2⟩))
      · exact Or.inl (Or.inr (Or.inr (Or.inr (Or.inr (Or.inr (Or.inr (Or.inr (Or.inl ⟨z.1, by omega, z.2.2⟩))))))))
    · by_cases w : i = xN X 2
      · exact Or.inr (Or.inr (Or.inr ⟨z.1, w, z.2.2⟩))
      · exact Or.inl (Or.inr (Or.inr (Or.inr (Or.inr (Or.inr (Or.inr (Or.inr (Or.inr (Or.inl ⟨z.1, by omega, z.2.2⟩)))))))))
    · exact Or.inl (Or.inr (Or.inr (Or.inr (Or.inr (Or.inr (Or.inr (Or.inr (Or.inr (Or.inr z)))))))))
  · have i26 : t = 26 ∨ t = 27 → i ≠ xN X 2 := fun y z => by
      rcases hl with w | w | w | w | w | w | w | w | w | w <;> first | omega | (have w := w.1; simp at w; omega)
    refine xC_g hl ao ar (fun z p => ?_) (fun f hf => xWkr_f (by simp only [List.mem_cons, List.not_mem_nil, or_false] at hf; omega)) (fun z => ?_) (fun z => ?_) (fun z => ⟨fun _ f hf => ?_, fun _ f hf => ?_, fun _ f hf => ?_⟩) (fun z => ?_) fun z c => ?_
    · show (if _ then u else if _ then q else if _ then q + 1 + p else ad 27 i p) = ad 27 i p
      rw [if_neg (by omega), if_neg (by omega), if_neg fun y => i26 (Or.inl z) y.2]
    · have hi : i ≠ 2 := fun y => h22 ⟨z, y⟩
      exact ⟨by rw [xWkr_f (by decide)], by rw [e69], xWkr_Z hi⟩
    · have hi : i ≠ 2 := fun y => h23 ⟨z, y⟩
      exact ⟨by rw [e69], xWkr_Z hi⟩
    · rw [xWkr_f (by simp only [List.mem_cons, List.not_mem_nil, or_false] at hf; omega)]
    · rw [xWkr_f (by simp only [List.mem_cons, List.not_mem_nil, or_false] at hf; omega)]
    · rw [xWkr_f (by simp only [List.mem_cons, List.not_mem_nil, or_false] at hf; omega)]
    · rw [xWkr_f (by decide), xWkr_f (f := 26) (by decide)]
      exact ⟨rfl, fun _ => rfl⟩
    · unfold xWkr
      rw [if_neg fun y => i26 (Or.inr z) y.2, if_neg (by decide)]
  · rcases hN with ⟨rfl, rfl, rfl⟩ | ⟨rfl, rfl, rfl⟩ | ⟨rfl, rfl, hj⟩
    · rw [au]
      refine ⟨ou, ?_, by decide, by decide⟩
      rw [hu]
      show some (true, (Sum.inr (13, [.ref q]) : mE)) = some (true, Sum.inr (13, [.ref (ad1 26 (xN X 2) 0)]))
      rw [aq]
    · rw [aq]
      refine ⟨oq, ?_, by decide, fun z => absurd z.1 (by decide)⟩
      rw [hq]
      show some (true, (Sum.inl (11, 40, mRs fun j => some (q + 1 + j)) : mE)) = some (true, Sum.inl (11, 40, mRs fun p => some (ad1 27 (xN X 2) p)))
      exact congrArg (fun g : Nat → Option Nat => some (true, (Sum.inl (11, 40, mRs g) : mE))) (funext fun p => by rw [a27 p])
    · rw [a27]
      refine ⟨orr j hj, ?_, by decide, fun z => absurd z.1 (by decide)⟩
      rw [hr j hj]
      show some (true, (Sum.inl (2, 36, mIs (rowN 36)) : mE)) = some (true, Sum.inl (2, 36, mIs fun c => xWkr X 63 (xN X 2) j c))
      refine congrArg (fun g : Nat → Int32 => some (true, (Sum.inl (2, 36, mIs g) : mE))) (funext fun c => ?_)
      unfold xWkr
      rw [if_pos ⟨rfl, rfl⟩]
  · rcases hN with ⟨rfl, rfl, rfl⟩ | ⟨rfl, rfl, rfl⟩ | ⟨rfl, rfl, hj⟩ <;> rcases hN' with ⟨rfl, rfl, rfl⟩ | ⟨rfl, rfl, rfl⟩ | ⟨rfl, rfl, hj'⟩
    · exact ⟨rfl, rfl, rfl⟩
    · rw [au, aq] at he; exact absurd he huq
    · rw [au, a27] at he; exact absurd he (hur _ hj')
    · rw [au, aq] at he; exact absurd he.symm huq
    · exact ⟨rfl, rfl, rfl⟩
    · rw [aq, a27] at he; omega
    · rw [au, a27] at he; exact absurd he.symm (hur _ hj)
    · rw [aq, a27] at he; omega
    · rw [a27, a27] at he; exact ⟨rfl, rfl, by omega⟩
  · rw [xWkr_f (by decide)]; exact hI.1
  · rw [hNi 3 (by decide)] at hi
    rw [xWkr_Z hi2, hNi i hi2, e69]
    exact hI.2 i hi
theorem x0_addWalker (h : rX κ M ad X) (hI : xI X) (hG : κ.2.1 = G.2.2 0) (hC : κ.1 (G.2.2 0) = some (false, .inl (5, 0, mRs fun _ => none))) (h6 : bIn (X 27 0 0 0) 0 6 = true) {K : Int32 → mM → Prop} (hb : 1900 ≤ b) (kk : ∀ M' ad' X', rX κ M' ad' X' → xI X' → xE (xs (bE (decide (X 27 0 0 0 = 6)) false false) X (xWkr X)) X' → (bE (decide (X 27 0 0 0 = 6)) false false = 0 → xOut κ M' (X 27 0 0 0).toInt64) → K (bE (decide (X 27 0 0 0 = 6)) false false) M') : wp_X0_addWalker G b K M κ.2.2.1 κ.2.2.2 := by
  have hL : 2 < 4 + xN X 3 := by omega
  unfold wp_X0_addWalker wp_X1_addWalker wb_X1_addWalker_19 wb_X0_addWalker_11
  refine ⟨h.isc, b, 0, rfl, gfa_ h.main rfl ⟨isc_ (h.list hL), x_size h hL ⟨fun z => ⟨7, b - 7, by omega, x_cst (by omega) (fun q => absurd rfl q) fun _ q => ⟨rfl, ?_⟩⟩, fun z => ⟨7, b - 7, by omega, x_cst (by omega) (fun _ => ?_) fun q => absurd q (by decide)⟩⟩⟩⟩
  · have z6 : X 27 0 0 0 = 6 := Int32.le_antisymm (bIn_t h6).2 z
    rw [decide_eq_true z6] at kk
    exact kk M ad X h hI (fun g _ _ => rfl) (fun w9 => by first | exact absurd (show (1 : Int32) = 0 from w9) (by decide) | exact absurd (show (2 : Int32) = 0 from w9) (by decide) | exact absurd (show (3 : Int32) = 0 from w9) (by decide))
  · have z6 : ¬ X 27 0 0 0 = 6 := fun y => z (by show (6 : Int32) ≤ X 27 0 0 0; rw [y]; decide)
    rw [decide_eq_false z6] at kk
    have hn6 : xN X 2 < 6 := by
      have h9 : nn (X 27 0 0 0) ≤ 6 := i_nle (bIn_t h6).1 (bIn_t h6).2
      have h8 : ¬ nn (X 27 0 0 0) = 6 := fun y => z6 (by rw [i_of (bIn_t h6).1, y]; rfl)
      show nn (X 27 0 0 0) < 6
      omega
    refine gfa_ h.main rfl ⟨by omega, fun u hu => ⟨1521, b - 7 - 2 - 1521, by omega, x_iniW (mset_s _ _ _) (Nat.le_refl _) fun q M2 hq hqu h2u h2q h2r h2o => ?_⟩⟩
    have fu := hu u (Nat.le_refl _)
    have fM : ∀ x, q ≤ x → M x = none := fun x hx => by
      have := hq x hx
      by_cases y : x = u
      · rw [y, mset_s] at this
        cases this
      · rwa [mset_n y] at this
    have r2 : rX κ M2 ad X := h.more fun a ha => by
      have hau : a ≠ u := fun y => ha (y ▸ fu)
      rw [h2o a hau (by rw [mset_n hau]; exact ha), mset_n hau]
    refine ⟨isc_ (r2.list hL), 310, b - 7 - 2 - 1521 - 310, by omega, x_pushW r2 hI hG hC hn6 h2u h2q h2r (h.fresh fu) (h.fresh (fM q (Nat.le_refl _))) (fun r _ => h.fresh (fM _ (by omega))) (Nat.le_refl _) fun M3 ad3 X3 h3 hI3 hE3 => ?_⟩
    have hL3 : 2 < 4 + xN X3 3 := by omega
    refine gfa_ h3.main rfl ⟨isc_ (h3.list hL3), x_size h3 hL3 ?_⟩
    have e27 : xZ X3 2 - 1 = X 27 0 0 0 := by
      show X3 27 0 0 0 - 1 = _
      rw [hE3 27 (by decide) (by decide)]
      unfold xWkr
      rw [if_neg fun y => absurd y.1 (by decide), if_pos rfl]
      exact Int32.add_sub_cancel _ _
    rw [e27]
    exact x_out h3 fun M' h' ho => kk M' ad3 X3 h' hI3 hE3 fun _ => ho
end B91
