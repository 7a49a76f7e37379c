/-! THE CLASS's route -/
def xRou (X : bS) (n : Nat) (p : Nat → Int32) : bS := fun f i j k => if f = 23 ∧ i = xN X 1 then Int32.ofNat n else if f = 26 ∧ i = xN X 1 then p j else if f = 24 then X 24 0 0 0 + 1 else X f i j k
theorem xRou_f {X : bS} {n : Nat} {p : Nat → Int32} {f : Nat} (h : f ≠ 23 ∧ f ≠ 26 ∧ f ≠ 24) : xRou X n p f = X f := by
  funext i j k
  unfold xRou
  rw [if_neg fun z => h.1 z.1, if_neg fun z => h.2.1 z.1, if_neg h.2.2]
theorem xRou_Z {X : bS} {n : Nat} {p : Nat → Int32} {i : Nat} (hi : i ≠ 1) : xZ (xRou X n p) i = xZ X i := by
  unfold xZ
  rw [xRou_f (f := 13) (by decide), xRou_f (f := 27) (by decide), xRou_f (f := 28) (by decide), xRou_f (f := 35) (by decide), if_neg hi, if_neg hi]
section B9890
variable {G : mG} {b : Nat} {κ : xK} {M : mM} {ad : xA} {X : bS}
theorem x_pushR (h : rX κ M ad X) (hI : xI X) (hG : κ.2.1 = G.2.2 0) (hC : κ.1 (G.2.2 0) = some (false, .inl (5, 0, mRs fun _ => none))) (h8 : xN X 1 < 8) {u q n : Nat} {p : Nat → Int32} (hn : n ≤ 31) (hu : M u = some (true, .inr (11, [.ref q]))) (hq : M q = some (true, .inl (0, n, mIs p))) (ou : xO κ ad X u) (oq : xO κ ad X q) (hb : 310 ≤ b) {K : Int32 → mM → Prop} (kk : ∀ M' ad' X', rX κ M' ad' X' → xI X' → xE (xRou X n p) X' → K 1 M') : wp_J2_add G b K M (ad 22 1 0) u := by
  have hL : 1 < 4 + xN X 3 := by omega
  obtain ⟨e0, e2⟩ := hI.z hL
  have hz : xZ (xRou X n p) 1 = Int32.ofNat (xN X 1 + 1) := by
    rw [← i_s, ← e0]
    show xRou X n p 24 0 0 0 = X 24 0 0 0 + 1
    unfold xRou
    rw [if_neg fun z => absurd z.1 (by decide), if_neg fun z => absurd z.1 (by decide), if_pos rfl]
  have hN1 : xN (xRou X n p) 1 = xN X 1 + 1 := by
    show nn (xZ (xRou X n p) 1) = _
    rw [hz]; exact i_nn (by omega)
  have hNi : ∀ i, i ≠ 1 → xN (xRou X n p) i = xN X i := fun i hi => by
    show nn (xZ (xRou X n p) i) = nn (xZ X i)
    rw [xRou_Z hi]
  have e69 : xRou X n p 69 = X 69 := xRou_f (by decide)
  let ad1 : xA := fun t i j => if t = 24 ∧ i = 1 ∧ j = xN X 1 then u else if t = 25 ∧ i = xN X 1 ∧ j = 0 then q else ad t i j
  have ar : ∀ t', t' ∉ [22, 23, 24, 25, 26, 27] → ad1 t' = ad t' := fun t' ht => by
    simp only [List.mem_cons, List.not_mem_nil, or_false] at ht
    funext i j
    show (if t' = 24 ∧ i = 1 ∧ j = xN X 1 then u else if t' = 25 ∧ i = xN X 1 ∧ j = 0 then q else ad t' i j) = _
    rw [if_neg (by omega), if_neg (by omega)]
  have ao : ∀ t i j, xL X t i j → ad1 t i j = ad t i j := fun t i j hl => by
    show (if t = 24 ∧ i = 1 ∧ j = xN X 1 then u else if t = 25 ∧ i = xN X 1 ∧ j = 0 then q else ad t i j) = _
    have n1 : ¬ (t = 24 ∧ i = 1 ∧ j = xN X 1) := by
      rintro ⟨rfl, rfl, rfl⟩
      rcases hl with z | z | z | z | z | z | z | z | z | z <;> first | omega | (have z := z.1; simp at z)
    have n2 : ¬ (t = 25 ∧ i = xN X 1 ∧ j = 0) := by
      rintro ⟨rfl, rfl, rfl⟩
      rcases hl with z | z | z | z | z | z | z | z | z | z <;> first | omega | (have z := z.1; simp at z)
    rw [if_neg n1, if_neg n2]
  have au : ad1 24 1 (xN X 1) = u := if_pos ⟨rfl, rfl, rfl⟩
  have aq : ad1 25 (xN X 1) 0 = q := by
    show (if _ then u else if _ then q else _) = q
    rw [if_neg (by omega), if_pos ⟨rfl, rfl, rfl⟩]
  have huq : u ≠ q := fun z => by rw [z, hq] at hu; cases hu
  refine x_push h hI hG hC hL (by omega) (X1 := xRou X n p) (ad1 := ad1) (fun t i j => (t = 24 ∧ i = 1 ∧ j = xN X 1) ∨ (t = 25 ∧ i = xN X 1 ∧ j = 0)) hb (fun t i j hl => ?_) (fun t i j hl => ⟨ao t i j hl, fun h22 h23 => ?_⟩) (fun t i j hN => ?_) (fun t i j t' i' j' hN hN' he => ?_) hz ⟨?_, fun i hi hi2 => ?_⟩ au ⟨true, 11, _, hu⟩ fun M' a' X' y1 y2 y3 _ => kk M' a' X' y1 y2 y3
  · unfold xL at hl ⊢
    rw [hNi 3 (by decide), hN1, hNi 2 (by decide), e69] at hl
    rcases hl with z | z | z | z | z | z | z | z | z | z
    · exact Or.inl (Or.inl z)
    · exact Or.inl (Or.inr (Or.inl z))
    · exact Or.inl (Or.inr (Or.inr (Or.inl z)))
    · exact Or.inl (Or.inr (Or.inr (Or.inr (Or.inl z))))
    · exact Or.inl (Or.inr (Or.inr (Or.inr (Or.inr (Or.inl z)))))
    · by_cases y : i = 1
      · subst y
        rw [hN1] at z
        by_cases w : j = xN X 1
        · exact Or.inr (Or.inl ⟨z.1, rfl, w⟩)
        · exact Or.inl (Or.inr (Or.inr (Or.inr (Or.inr (Or.inr (Or.inl ⟨z.1, z.2.1, by omega⟩))))))
      · rw [hNi i y] at z
        exact Or.inl (Or.inr (Or.inr (Or.inr (Or.inr (Or.inr (Or.inl z))))))
    · by_cases w : i = xN X 1
      · exact Or.inr (Or.inr ⟨z.1, w, z.2.2⟩)
      · exact Or.inl (Or.inr (Or.inr (Or.inr (Or.inr (Or.inr (Or.inr (Or.inl ⟨z.1, by omega, z.2.2⟩)))))))
    · exact Or.inl (Or.inr (Or.inr (Or.inr (Or.inr (Or.inr (Or.inr (Or.inr (Or.inl z))))))))
    · exact Or.inl (Or.inr (Or.inr (Or.inr (Or.inr (Or.inr (Or.inr (Or.inr (Or.inr (Or.inl z)))))))))
    · exact Or.inl (Or.inr (Or.inr (Or.inr (Or.inr (Or.inr (Or.inr (Or.inr (Or.inr (Or.inr z)))))))))
  · have i25 : t = 25 → i ≠ xN X 1 := fun y z => by
      rcases hl with w | w | w | w | w | w | w | w | w | w <;> first | omega | (have w := w.1; simp at w; omega)
    refine xC_g hl ao ar (fun z p' => ?_) (fun f hf => xRou_f (by simp only [List.mem_cons, List.not_mem_nil, or_false] at hf; omega)) (fun z => ?_) (fun z => ?_) (fun z => ⟨fun _ f hf => ?_, fun _ f hf => ?_, fun _ f hf => ?_⟩) (fun z => ?_) fun z c => ?_
    · show (if _ then u else if _ then q else ad 27 i p') = ad 27 i p'
      rw [if_neg (by omega), if_neg (by omega)]
    · have hi : i ≠ 1 := fun y => h22 ⟨z, y⟩
      exact ⟨by rw [xRou_f (by decide)], by rw [e69], xRou_Z hi⟩
    · have hi : i ≠ 1 := fun y => h23 ⟨z, y⟩
      exact ⟨by rw [e69], xRou_Z hi⟩
    · rw [xRou_f (by simp only [List.mem_cons, List.not_mem_nil, or_false] at hf; omega)]
    · rw [xRou_f (by simp only [List.mem_cons, List.not_mem_nil, or_false] at hf; omega)]
    · rw [xRou_f (by simp only [List.mem_cons, List.not_mem_nil, or_false] at hf; omega)]
    · have hi := i25 z
      unfold xRou
      exact ⟨by rw [if_neg fun y => hi y.2, if_neg (by simp), if_neg (by decide)], fun p' => by rw [if_neg (by simp), if_neg fun y => hi y.2, if_neg (by decide)]⟩
    · rw [xRou_f (by decide)]
  · rcases hN with ⟨rfl, rfl, rfl⟩ | ⟨rfl, rfl, rfl⟩
    · rw [au]
      refine ⟨ou, ?_, by decide, by decide⟩
      rw [hu]
      show some (true, (Sum.inr (11, [.ref q]) : mE)) = some (true, Sum.inr (11, [.ref (ad1 25 (xN X 1) 0)]))
      rw [aq]
    · rw [aq]
      refine ⟨oq, ?_, by decide, fun z => absurd z.1 (by decide)⟩
      rw [hq]
      have e1 : xRou X n p 23 (xN X 1) 0 0 = Int32.ofNat n := if_pos ⟨rfl, rfl⟩
      have e2' : ∀ j, xRou X n p 26 (xN X 1) j 0 = p j := fun j => (if_neg fun z => absurd z.1 (by decide)).trans (if_pos ⟨rfl, rfl⟩)
      show some (true, (Sum.inl (0, n, mIs p) : mE)) = some (true, Sum.inl (0, nn (xRou X n p 23 (xN X 1) 0 0), mIs fun j => xRou X n p 26 (xN X 1) j 0))
      rw [e1, i_nn (by omega)]
      exact congrArg (fun g : Nat → Int32 => some (true, (Sum.inl (0, n, mIs g) : mE))) (funext fun j => (e2' j).symm)
  · rcases hN with ⟨rfl, rfl, rfl⟩ | ⟨rfl, rfl, rfl⟩ <;> rcases hN' with ⟨rfl, rfl, rfl⟩ | ⟨rfl, rfl, rfl⟩
    · exact ⟨rfl, rfl, rfl⟩
    · rw [au, aq] at he; exact absurd he huq
    · rw [au, aq] at he; exact absurd he.symm huq
    · exact ⟨rfl, rfl, rfl⟩
  · rw [xRou_f (by decide)]; exact hI.1
  · rw [hNi 3 (by decide)] at hi
    rw [xRou_Z hi2, hNi i hi2, e69]
    exact hI.2 i hi
end B9890
