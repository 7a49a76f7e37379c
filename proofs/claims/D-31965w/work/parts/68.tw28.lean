/-! THE TWIN's constructor: its world in the making -/
def bRvN (n : Nat) (ad : bA) (S : bS) (f : Nat) : Value := if bD f = 0 then .int (S f 0 0 0) else if f < n then .ref (ad f 0 0 0) else .null
def bRN (n : Nat) (ad : bA) (S : bS) : List Value := (List.range 49).map (bRvN n ad S)
def bMp (n : Nat) (M : mM) (am : Nat) (ad : bA) (S : bS) : Prop :=
  M am = some (true, .inr (3, bRN n ad S)) ∧ (∀ f l i j, f < n → bLive f l i j → M (ad f l i j) = some (true, bC ad S f l i j)) ∧ (∀ f l i j, f < n → bLive f l i j → ad f l i j ≠ am) ∧
  ∀ f l i j f' l' i' j', f < n → f' < n → bLive f l i j → bLive f' l' i' j' → ad f l i j = ad f' l' i' j' → f = f' ∧ l = l' ∧ i = i' ∧ j = j'
theorem bRN_len (n : Nat) (ad : bA) (S : bS) : (bRN n ad S).length = 49 := by simp [bRN]
theorem bRN_get {n : Nat} {ad : bA} {S : bS} {k : Nat} (h : k < 49) : (bRN n ad S)[k]? = some (bRvN n ad S k) := by
  simp [bRN, List.getElem?_map, List.getElem?_range h]
theorem bMp.end {M : mM} {am : Nat} {ad : bA} {S : bS} (h : bMp 49 M am ad S) : bM M am ad S := by
  obtain ⟨h1, h2, h3, h4⟩ := h
  refine ⟨?_, fun f l i j hl => h2 f l i j hl.1 hl, fun f l i j hl => h3 f l i j hl.1 hl, fun f l i j f' l' i' j' hl hl' => h4 f l i j f' l' i' j' hl.1 hl'.1 hl hl'⟩
  rw [h1]
  have : bRN 49 ad S = bR ad S := by
    unfold bRN bR
    refine List.map_congr_left fun f hf => ?_
    have hf2 : f < 49 := List.mem_range.mp hf
    unfold bRvN bRv
    by_cases h0 : bD f = 0
    · rw [if_pos h0, if_pos h0]
    · rw [if_neg h0, if_neg h0, if_pos hf2]
  rw [this]
/-- a field that holds a number -/
theorem bMp.num {M : mM} {am : Nat} {ad : bA} {S : bS} {f : Nat} (h : bMp f M am ad S) (h0 : bD f = 0) : bMp (f + 1) M am ad S := by
  obtain ⟨h1, h2, h3, h4⟩ := h
  have nl : ∀ l i j, ¬ bLive f l i j := by
    rintro l i j ⟨-, z | z | z⟩ <;> omega
  have lt : ∀ {g l i j}, g < f + 1 → bLive g l i j → g < f := by
    intro g l i j hg hl
    rcases Nat.lt_or_ge g f with z | z
    · exact z
    · have : g = f := by omega
      subst this
      exact absurd hl (nl l i j)
  refine ⟨?_, fun g l i j hg hl => h2 g l i j (lt hg hl) hl, fun g l i j hg hl => h3 g l i j (lt hg hl) hl, fun g l i j g' l' i' j' hg hg' hl hl' => h4 g l i j g' l' i' j' (lt hg hl) (lt hg' hl') hl hl'⟩
  rw [h1]
  congr 4
  unfold bRN
  refine List.map_congr_left fun g _ => ?_
  unfold bRvN
  by_cases z : bD g = 0
  · rw [if_pos z, if_pos z]
  · rw [if_neg z, if_neg z]
    have hne : g ≠ f := fun q => z (q ▸ h0)
    by_cases y : g < f
    · rw [if_pos y, if_pos (by omega)]
    · rw [if_neg y, if_neg (by omega)]
/-- a field that gets its arrays -/
theorem bMp.arr {M M1 : mM} {am q : Nat} {ad : bA} {S : bS} {f : Nat} (h : bMp f M am ad S) (hf : f < 49) (h0 : ¬ bD f = 0) (hq : ∀ x, q ≤ x → M x = none) (hM1 : ∀ x, x < q → M1 x = M x) (nad : Nat → Nat → Nat → Nat) (n0 : nad 0 0 0 = q)
    (hge : ∀ l i j, bLive f l i j → q ≤ nad l i j) (hc : ∀ l i j, bLive f l i j → M1 (nad l i j) = some (true, bC (fun g => if g = f then nad else ad g) S f l i j))
    (hinj : ∀ l i j l' i' j', bLive f l i j → bLive f l' i' j' → nad l i j = nad l' i' j' → l = l' ∧ i = i' ∧ j = j') {K : mM → Prop} (kk : ∀ M' ad', bMp (f + 1) M' am ad' S → K M') : pfq M1 am 3 f (some q) K := by
  obtain ⟨h1, h2, h3, h4⟩ := h
  have lt : ∀ {a e}, M a = some e → a < q := fun {a e} z => Nat.not_le.mp fun y => by rw [hq a y] at z; cases z
  have ham := lt h1
  refine ⟨_, (hM1 am ham).trans h1, by rw [bRN_len]; exact hf, kk _ (fun g => if g = f then nad else ad g) ?_⟩
  have c1 : ∀ {g l i j}, g < f + 1 → ¬ g = f → bLive g l i j → g < f ∧ ad g l i j < q := fun {g l i j} hg hne hl => by
    have : g < f := by omega
    exact ⟨this, lt (h2 g l i j this hl)⟩
  have e1 : ∀ g, g ≠ f → (fun g => if g = f then nad else ad g) g = ad g := fun g hg => if_neg hg
  have e2 : (fun g => if g = f then nad else ad g) f = nad := if_pos rfl
  refine ⟨?_, fun g l i j hg hl => ?_, fun g l i j hg hl => ?_, fun g l i j g' l' i' j' hg hg' hl hl' he => ?_⟩
  · rw [mset_s]
    congr 4
    refine List.ext_getElem? fun j => ?_
    rw [List.getElem?_set]
    by_cases hj : f = j
    · subst hj
      rw [if_pos rfl, bRN_len, if_pos hf, bRN_get hf, bRvN, if_neg h0, if_pos (Nat.lt_succ_self _)]
      show some (va_rf (some q)) = some (.ref ((if f = f then nad else ad f) 0 0 0))
      rw [if_pos rfl, n0]
      rfl
    · rw [if_neg hj]
      rcases Nat.lt_or_ge j 49 with y | y
      · rw [bRN_get y, bRN_get y]
        unfold bRvN
        by_cases z : bD j = 0
        · rw [if_pos z, if_pos z]
        · rw [if_neg z, if_neg z]
          by_cases w : j < f
          · rw [if_pos w, if_pos (by omega)]
            show some (Value.ref (ad j 0 0 0)) = some (.ref ((if j = f then nad else ad j) 0 0 0))
            rw [if_neg (by omega)]
          · rw [if_neg w, if_neg (by omega)]
      · rw [List.getElem?_eq_none (by rw [bRN_len]; exact y), List.getElem?_eq_none (by rw [bRN_len]; exact y)]
  · by_cases z : g = f
    · subst z
      show mset M1 am _ ((if g = g then nad else ad g) l i j) = _
      rw [if_pos rfl, mset_n (by have := hge l i j hl; omega)]
      exact hc l i j hl
    · obtain ⟨y1, y2⟩ := c1 hg z hl
      show mset M1 am _ ((if g = f then nad else ad g) l i j) = _
      rw [if_neg z, mset_n (h3 g l i j y1 hl), hM1 _ y2, h2 g l i j y1 hl]
      unfold bC
      simp only [if_neg z]
  · by_cases z : g = f
    · subst z
      show (if g = g then nad else ad g) l i j ≠ am
      rw [if_pos rfl]
      have := hge l i j hl
      omega
    · show (if g = f then nad else ad g) l i j ≠ am
      rw [if_neg z]
      exact h3 g l i j (c1 hg z hl).1 hl
  · change (if g = f then nad else ad g) l i j = (if g' = f then nad else ad g') l' i' j' at he
    by_cases z : g = f
    · by_cases z' : g' = f
      · subst z
        subst z'
        rw [if_pos rfl] at he
        obtain ⟨y1, y2, y3⟩ := hinj l i j l' i' j' hl hl' he
        exact ⟨rfl, y1, y2, y3⟩
      · subst z
        rw [if_pos rfl, if_neg z'] at he
        have y1 := hge l i j hl
        have y2 := (c1 hg' z' hl').2
        omega
    · by_cases z' : g' = f
      · subst z'
        rw [if_pos rfl, if_neg z] at he
        have y1 := hge l' i' j' hl'
        have y2 := (c1 hg z hl).2
        omega
      · rw [if_neg z, if_neg z'] at he
        exact h4 g l i j g' l' i' j' (c1 hg z hl).1 (c1 hg' z' hl').1 hl hl' he
section B68
variable {M : mM} {am : Nat} {ad : bA} {S : bS} {r : Nat} {K : mM → Nat → Prop}
theorem i_nw1 (f n t : Nat) (x : Int32) (h : bMp f M am ad S) (hf : f < 49 ∧ bD f = 1 ∧ bT f = t ∧ bN f 0 = n ∧ ¬ x < 0 ∧ x.toNatClampNeg = n ∧ n ≤ 200) (hS : S f = fun _ _ _ => 0) (hr : n + 1 ≤ r) (kk : ∀ M' ad', bMp (f + 1) M' am ad' S → K M' (r - (n + 1))) : nwa M r t x (.inl fun _ => 0) fun u M2 r3 => pfq M2 am 3 f (some u) fun M4 => K M4 r3 := by
  obtain ⟨f1, f2, f3, f4, f5, f6, f7⟩ := hf
  refine ⟨f5, by omega, by omega, fun q hq => ?_⟩
  rw [f6]
  have live : ∀ l i j, bLive f l i j → l = 0 ∧ i = 0 ∧ j = 0 := by
    rintro l i j ⟨-, z | z | z⟩ <;> omega
  refine bMp.arr h f1 (by omega) hq (fun a ha => mset_n (by omega)) (fun _ _ _ => q) rfl (fun _ _ _ _ => Nat.le_refl _) (fun l i j hl => ?_) (fun l i j l' i' j' hl hl' _ => ?_) fun M' ad' h' => kk M' ad' h'
  · obtain ⟨rfl, rfl, rfl⟩ := live l i j hl
    rw [mset_s]
    unfold bC
    rw [if_pos rfl, if_pos f2, f3, f4, hS]
  · obtain ⟨rfl, rfl, rfl⟩ := live l i j hl
    obtain ⟨rfl, rfl, rfl⟩ := live l' i' j' hl'
    exact ⟨rfl, rfl, rfl⟩
theorem i_nw2 (f n k t0 t1 : Nat) (x y : Int32) (h : bMp f M am ad S) (hf : f < 49 ∧ bD f = 2 ∧ bT2 f = t0 ∧ bT f = t1 ∧ bN f 0 = n ∧ bN f 1 = k ∧ ¬ x < 0 ∧ ¬ y < 0 ∧ x.toNatClampNeg = n ∧ y.toNatClampNeg = k ∧ n ≤ 200 ∧ k ≤ 200) (hS : S f = fun _ _ _ => 0) (hr : 1 + n + n * (k + 1) ≤ r) (kk : ∀ M' ad', bMp (f + 1) M' am ad' S → K M' (r - (1 + n + n * (k + 1)))) : nwm2 M r t0 t1 x y fun u M2 r3 => pfq M2 am 3 f (some u) fun M4 => K M4 r3 := by
  obtain ⟨f1, f2, f3, f4, f5, f6, f7, f8, f9, f10, f11, f12⟩ := hf
  refine ⟨f7, f8, by omega, by omega, by rw [f9, f10]; exact hr, fun q hq => ?_⟩
  rw [f9, f10]
  have live : ∀ l i j, bLive f l i j → (l = 0 ∧ i = 0 ∧ j = 0) ∨ (l = 1 ∧ i < n ∧ j = 0) := by
    rintro l i j ⟨-, z | z | z⟩
    · exact Or.inl ⟨z.1, z.2.1, z.2.2.1⟩
    · exact Or.inr ⟨z.1, by omega, z.2.1⟩
    · omega
  refine bMp.arr h f1 (by omega) hq (fun a ha => ?_) (fun l i _ => if l = 0 then q else q + 1 + i) rfl (fun l i j hl => ?_) (fun l i j hl => ?_) (fun l i j l' i' j' hl hl' he => ?_) fun M' ad' h' => kk M' ad' h'
  · unfold mN2
    rw [if_neg (by omega), if_neg (by omega)]
  · show q ≤ if l = 0 then q else q + 1 + i
    split <;> omega
  · rcases live l i j hl with ⟨rfl, rfl, rfl⟩ | ⟨rfl, hi, rfl⟩
    · show mN2 M q t0 t1 n k q = _
      unfold mN2 bC
      rw [if_pos rfl, if_pos rfl, if_neg (by omega), f3, f5]
      show _ = some (true, Sum.inl (t0, n, mRs fun x => some ((if f = f then (fun l i _ => if l = 0 then q else q + 1 + i) else ad f) 1 x 0)))
      rw [if_pos rfl]
      rfl
    · show mN2 M q t0 t1 n k (q + 1 + i) = _
      unfold mN2 bC
      rw [if_neg (by omega), if_pos (by omega), if_neg (by decide), if_pos rfl, if_pos f2, f4, f6, hS]
  · change (if l = 0 then q else q + 1 + i) = (if l' = 0 then q else q + 1 + i') at he
    rcases live l i j hl with ⟨rfl, rfl, rfl⟩ | ⟨rfl, hi, rfl⟩ <;> rcases live l' i' j' hl' with ⟨rfl, rfl, rfl⟩ | ⟨rfl, hi', rfl⟩
    · exact ⟨rfl, rfl, rfl⟩
    · rw [if_pos rfl, if_neg (by decide)] at he; omega
    · rw [if_pos rfl, if_neg (by decide)] at he; omega
    · rw [if_neg (by decide), if_neg (by decide)] at he
      exact ⟨rfl, by omega, rfl⟩
theorem i_nw3 (f n w k t0 t1 t2 : Nat) (x y z : Int32) (h : bMp f M am ad S) (hf : f < 49 ∧ bD f = 3 ∧ bT2 f = t0 ∧ 8 = t1 ∧ bT f = t2 ∧ bN f 0 = n ∧ bN f 1 = w ∧ bN f 2 = k ∧ ¬ x < 0 ∧ ¬ y < 0 ∧ ¬ z < 0 ∧ x.toNatClampNeg = n ∧ y.toNatClampNeg = w ∧ z.toNatClampNeg = k ∧ n ≤ 200 ∧ w ≤ 200 ∧ k ≤ 200) (hS : S f = fun _ _ _ => 0) (hr : 1 + n + n * (w + 1 + w * (k + 1)) ≤ r) (kk : ∀ M' ad', bMp (f + 1) M' am ad' S → K M' (r - (1 + n + n * (w + 1 + w * (k + 1))))) : nwm3 M r t0 t1 t2 x y z fun u M2 r3 => pfq M2 am 3 f (some u) fun M4 => K M4 r3 := by
  obtain ⟨f1, f2, f3, f3', f4, f5, f6, f7, f8, f9, f10, f11, f12, f13, f14, f15, f16⟩ := hf
  refine ⟨f8, f9, f10, by omega, by omega, by omega, by rw [f11, f12, f13]; exact hr, fun q hq => ?_⟩
  rw [f11, f12, f13]
  have live : ∀ l i j, bLive f l i j → (l = 0 ∧ i = 0 ∧ j = 0) ∨ (l = 1 ∧ i < n ∧ j = 0) ∨ (l = 2 ∧ i < n ∧ j < w) := by
    rintro l i j ⟨-, z | z | z⟩
    · exact Or.inl ⟨z.1, z.2.1, z.2.2.1⟩
    · exact Or.inr (Or.inl ⟨z.1, by omega, z.2.1⟩)
    · exact Or.inr (Or.inr ⟨z.1, by omega, by omega⟩)
  have rng : ∀ i j, i < n → j < w + 1 → i * (w + 1) + j < n * (w + 1) := fun i j hi hj => by
    have : (i + 1) * (w + 1) ≤ n * (w + 1) := Nat.mul_le_mul_right _ hi
    rw [Nat.succ_mul] at this
    omega
  have dm : ∀ i j, j < w + 1 → (i * (w + 1) + j) % (w + 1) = j ∧ (i * (w + 1) + j) / (w + 1) = i := fun i j hj => by
    constructor
    · rw [Nat.add_comm, Nat.add_mul_mod_self_right, Nat.mod_eq_of_lt hj]
    · rw [Nat.add_comm, Nat.add_mul_div_right _ _ (by omega), Nat.div_eq_of_lt hj, Nat.zero_add]
  refine bMp.arr h f1 (by omega) hq (fun a ha => ?_) (fun l i j => if l = 0 then q else if l = 1 then q + 1 + i * (w + 1) else q + 1 + (i * (w + 1) + (1 + j))) rfl (fun l i j hl => ?_) (fun l i j hl => ?_) (fun l i j l' i' j' hl hl' he => ?_) fun M' ad' h' => kk M' ad' h'
  · unfold mN3
    rw [if_neg (by omega), if_neg (by omega)]
  · show q ≤ if l = 0 then q else if l = 1 then q + 1 + i * (w + 1) else q + 1 + (i * (w + 1) + (1 + j))
    split
    · omega
    · split <;> omega
  · rcases live l i j hl with ⟨rfl, rfl, rfl⟩ | ⟨rfl, hi, rfl⟩ | ⟨rfl, hi, hj⟩
    · show mN3 M q t0 t1 t2 n w k q = _
      unfold mN3 bC
      rw [if_pos rfl, if_pos rfl, if_neg (by omega), f3, f5]
      show _ = some (true, Sum.inl (t0, n, mRs fun x => some ((if f = f then (fun l i j => if l = 0 then q else if l = 1 then q + 1 + i * (w + 1) else q + 1 + (i * (w + 1) + (1 + j))) else ad f) 1 x 0)))
      rw [if_pos rfl]
      rfl
    · have r1 := rng i 0 hi (by omega)
      have d1 := dm i 0 (by omega)
      show mN3 M q t0 t1 t2 n w k (q + 1 + i * (w + 1)) = _
      unfold mN3 bC
      rw [if_neg (by omega), if_pos (by omega), if_pos (by rw [show q + 1 + i * (w + 1) - q - 1 = i * (w + 1) + 0 by omega]; exact d1.1), if_neg (by decide), if_pos rfl, if_neg (by omega), f6, ← f3']
      show _ = some (true, Sum.inl (8, w, mRs fun x => some ((if f = f then (fun l i j => if l = 0 then q else if l = 1 then q + 1 + i * (w + 1) else q + 1 + (i * (w + 1) + (1 + j))) else ad f) 2 i x)))
      rw [if_pos rfl]
      refine congrArg (fun g : Nat → Option Nat => some (true, (Sum.inl (8, w, mRs g) : mE))) (funext fun y => ?_)
      show some (q + 1 + i * (w + 1) + 1 + y) = some (q + 1 + (i * (w + 1) + (1 + y)))
      congr 1
      omega
    · have r1 := rng i (1 + j) hi (by omega)
      have d1 := dm i (1 + j) (by omega)
      show mN3 M q t0 t1 t2 n w k (q + 1 + (i * (w + 1) + (1 + j))) = _
      unfold mN3 bC
      rw [if_neg (by omega), if_pos (by omega), if_neg (by rw [show q + 1 + (i * (w + 1) + (1 + j)) - q - 1 = i * (w + 1) + (1 + j) by omega, d1.1]; omega), if_neg (by decide), if_neg (by decide), f4, f7, hS]
  · have tri : ∀ l i j, bLive f l i j → (if l = 0 then q else if l = 1 then q + 1 + i * (w + 1) else q + 1 + (i * (w + 1) + (1 + j))) = (if l = 0 then q else q + 1 + (i * (w + 1) + (if l = 1 then 0 else 1 + j))) := fun l i j _ => by
      by_cases z : l = 0
      · rw [if_pos z, if_pos z]
      · rw [if_neg z, if_neg z]
        by_cases y : l = 1
        · rw [if_pos y, if_pos y]; omega
        · rw [if_neg y, if_neg y]
    change (if l = 0 then q else if l = 1 then q + 1 + i * (w + 1) else q + 1 + (i * (w + 1) + (1 + j))) = (if l' = 0 then q else if l' = 1 then q + 1 + i' * (w + 1) else q + 1 + (i' * (w + 1) + (1 + j'))) at he
    have go : ∀ i j i' j', j < w + 1 → j' < w + 1 → q + 1 + (i * (w + 1) + j) = q + 1 + (i' * (w + 1) + j') → i = i' ∧ j = j' := fun i j i' j' hj hj' e => by
      have e2 : i * (w + 1) + j = i' * (w + 1) + j' := by omega
      have d1 := dm i j hj
      have d2 := dm i' j' hj'
      rw [e2] at d1
      exact ⟨d1.2.symm.trans d2.2, d1.1.symm.trans d2.1⟩
    rcases live l i j hl with ⟨rfl, rfl, rfl⟩ | ⟨rfl, hi, rfl⟩ | ⟨rfl, hi, hj⟩ <;> rcases live l' i' j' hl' with ⟨rfl, rfl, rfl⟩ | ⟨rfl, hi', rfl⟩ | ⟨rfl, hi', hj'⟩
    · exact ⟨rfl, rfl, rfl⟩
    · rw [if_pos rfl, if_neg (by decide), if_pos rfl] at he; omega
    · rw [if_pos rfl, if_neg (by decide), if_neg (by decide)] at he; omega
    · rw [if_pos rfl, if_neg (by decide), if_pos rfl] at he; omega
    · rw [if_neg (by decide), if_pos rfl, if_neg (by decide), if_pos rfl] at he
      have := go i 0 i' 0 (by omega) (by omega) (by omega)
      exact ⟨rfl, this.1, rfl⟩
    · rw [if_neg (by decide), if_pos rfl, if_neg (by decide), if_neg (by decide)] at he
      have := go i 0 i' (1 + j') (by omega) (by omega) (by omega)
      omega
    · rw [if_pos rfl, if_neg (by decide), if_neg (by decide)] at he; omega
    · rw [if_neg (by decide), if_neg (by decide), if_neg (by decide), if_pos rfl] at he
      have := go i (1 + j) i' 0 (by omega) (by omega) (by omega)
      omega
    · rw [if_neg (by decide), if_neg (by decide), if_neg (by decide), if_neg (by decide)] at he
      have := go i (1 + j) i' (1 + j') (by omega) (by omega) (by omega)
      exact ⟨rfl, this.1, by omega⟩
end B68
