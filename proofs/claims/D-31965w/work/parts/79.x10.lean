/-! THE CLASS's joined: the plain law -/
def jSt (X : bS) (c k y : Nat) (t : Int32 × Int32) : Int32 × Int32 :=
  (if X 45 y c k = -1 then (if t.1 = -1 then -1 else t.1 / 2) else (if (if t.1 = -1 then (-1 : Int32) else t.1 / 2) < X 45 y c k then X 45 y c k else (if t.1 = -1 then -1 else t.1 / 2)),
   if X 45 y c k = -1 then (if t.1 = -1 then -1 else 2 * t.2 + 1) else if t.1 = -1 then (if X 45 y c k < X 62 y c k then X 62 y c k else X 45 y c k) else (if (if X 45 y c k < X 62 y c k then X 62 y c k else X 45 y c k) < 2 * t.2 + 1 then (if X 45 y c k < X 62 y c k then X 62 y c k else X 45 y c k) else 2 * t.2 + 1))
def jFi (t : Int32 × Int32) : Int32 × Int32 := (t.1, if t.1 < t.2 then t.2 else t.1)
def jn (X : bS) (c k : Nat) : Nat → Int32 × Int32
  | 0 => (-1, -1)
  | y + 1 => jFi (jSt X c k y (jn X c k y))
/-- bounds of what walks told, and what the class keeps of it -/
def bJ (X : bS) : Prop := ∀ y c k, y < 10 → c < 36 → k < 4 → (X 45 y c k = -1 ∨ (0 ≤ (X 45 y c k).toInt ∧ (X 45 y c k).toInt ≤ 20000)) ∧ (0 ≤ (X 46 y c k).toInt ∧ (X 46 y c k).toInt ≤ 300000) ∧ X 62 y c k = if X 45 y c k = -1 then -1 else X 46 y c k
theorem i_half {x : Int32} (h : 0 ≤ x.toInt) : (x / 2).toInt = x.toInt / 2 := by
  rw [Int32.toInt_div]
  show (x.toInt.tdiv 2).bmod (2 ^ 32) = x.toInt / 2
  have h2 := Int32.toInt_lt x
  rw [Int.tdiv_eq_ediv_of_nonneg h]
  exact Int.bmod_eq_of_le (by omega) (by omega)
theorem i_dbl {x : Int32} (h : 0 ≤ x.toInt) (h2 : x.toInt < 2 ^ 29) : (2 * x + 1).toInt = 2 * x.toInt + 1 := by
  rw [Int32.toInt_add, Int32.toInt_mul]
  show (((2 : Int) * x.toInt).bmod (2 ^ 32) + 1).bmod (2 ^ 32) = 2 * x.toInt + 1
  rw [Int.bmod_eq_of_le (n := 2 * x.toInt) (by omega) (by omega)]
  exact Int.bmod_eq_of_le (by omega) (by omega)
def jOk (X : bS) (c k n : Nat) : Prop :=
  ((fnd X c k n).1 = 0 → jn X c k n = (-1, -1)) ∧ (¬ (fnd X c k n).1 = 0 → (fnd X c k n).1 = 1 ∧ jn X c k n = ((fnd X c k n).2.1, (fnd X c k n).2.2) ∧ 0 ≤ (fnd X c k n).2.1.toInt ∧ (fnd X c k n).2.1.toInt ≤ (fnd X c k n).2.2.toInt ∧ (fnd X c k n).2.2.toInt < 300001 * 2 ^ n)
theorem i_max {a b : Int32} : (if a < b then b else a).toInt = max a.toInt b.toInt := by
  by_cases z : a < b
  · have := Int32.lt_iff_toInt_lt.mp z
    rw [if_pos z]; omega
  · have : ¬ a.toInt < b.toInt := fun w => z (Int32.lt_iff_toInt_lt.mpr w)
    rw [if_neg z]; omega
theorem i_min {a b : Int32} : (if a < b then a else b).toInt = min a.toInt b.toInt := by
  by_cases z : a < b
  · have := Int32.lt_iff_toInt_lt.mp z
    rw [if_pos z]; omega
  · have : ¬ a.toInt < b.toInt := fun w => z (Int32.lt_iff_toInt_lt.mpr w)
    rw [if_neg z]; omega
theorem i_ext {a b : Int32} (h : a.toInt = b.toInt) : a = b := Int32.toInt_inj.mp h
theorem j_ok {X : bS} {c k : Nat} (h : bJ X) (hc : c < 36) (hk : k < 4) : ∀ n, n ≤ 10 → jOk X c k n
  | 0, _ => ⟨fun _ => rfl, fun z => absurd rfl z⟩
  | n + 1, hn => by
    obtain ⟨ih0, ih1⟩ := j_ok h hc hk n (by omega)
    obtain ⟨b1, ⟨b2, b3⟩, b4⟩ := h n c k (by omega) hc hk
    have p2 : (2 : Int) ^ n ≤ 2 ^ 9 := by
      have : (2 : Nat) ^ n ≤ 2 ^ 9 := Nat.pow_le_pow_right (by decide) (by omega)
      exact_mod_cast this
    have p1 : (1 : Int) ≤ 2 ^ n := by
      have : (1 : Nat) ≤ 2 ^ n := Nat.one_le_two_pow
      exact_mod_cast this
    have p3 : (2 : Int) ^ (n + 1) = 2 * 2 ^ n := by rw [Int.pow_succ]; omega
    have e1 : fnd X c k (n + 1) = fSt X c k n (fnd X c k n) := rfl
    have e2 : jn X c k (n + 1) = jFi (jSt X c k n (jn X c k n)) := rfl
    have m1 : (-1 : Int32).toInt = -1 := rfl
    generalize hX45 : X 45 n c k = oL at b1 b4
    generalize hX46 : X 46 n c k = oH at b2 b3 b4
    by_cases hh : (fnd X c k n).1 = 0
    · have j0 := ih0 hh
      by_cases ho : oL = -1
      · have hHas : fHas X c k n = 0 := by unfold fHas; rw [hX45, if_pos ho]
        have f1 : (fnd X c k (n + 1)).1 = 0 := by
          rw [e1]
          show (fnd X c k n).1 ||| fHas X c k n = 0
          rw [hh, hHas]; rfl
        refine ⟨fun _ => ?_, fun z => absurd f1 z⟩
        rw [e2, j0]
        unfold jSt
        rw [hX45, if_pos ho, if_pos ho]
        rfl
      · have ho2 := b1.resolve_left ho
        have hHas : fHas X c k n = 1 := by unfold fHas; rw [hX45, if_neg ho]
        have f1 : (fnd X c k (n + 1)).1 = 1 := by
          rw [e1]
          show (fnd X c k n).1 ||| fHas X c k n = 1
          rw [hh, hHas]; rfl
        have f2 : (fnd X c k (n + 1)).2.1 = oL := by
          rw [e1]
          show fLo X c k n (fnd X c k n) = oL
          unfold fLo
          rw [if_pos hh, hX45]
        have f3 : (fnd X c k (n + 1)).2.2 = (if oL < oH then oH else oL) := by
          rw [e1]
          show fHi X c k n (fnd X c k n) = _
          unfold fHi fOh
          rw [if_pos hh, hX45, hX46]
        have lt1 : (-1 : Int32) < oL := Int32.lt_iff_toInt_lt.mpr (by omega)
        refine ⟨fun z => by rw [f1] at z; exact absurd z (by decide), fun _ => ⟨f1, ?_, ?_, ?_, ?_⟩⟩
        · rw [e2, j0, f2, f3]
          unfold jSt jFi
          rw [hX45, b4, if_neg ho, if_neg ho, if_neg ho, if_pos rfl, if_pos lt1, if_pos rfl]
          refine Prod.ext rfl (i_ext ?_)
          show (if oL < (if oL < oH then oH else oL) then (if oL < oH then oH else oL) else oL).toInt = (if oL < oH then oH else oL).toInt
          rw [i_max, i_max]
          omega
        · rw [f2]; exact ho2.1
        · rw [f2, f3, i_max]; omega
        · rw [f3, i_max, p3]; omega
    · obtain ⟨t1, t2, t3, t4, t5⟩ := ih1 hh
      have k1 : fLo X c k n (fnd X c k n) = (if fHas X c k n = 0 then (fnd X c k n).2.1 / 2 else (if X 45 n c k < (fnd X c k n).2.1 / 2 then (fnd X c k n).2.1 / 2 else X 45 n c k)) := by unfold fLo; rw [if_neg hh]
      have k2 : fHi X c k n (fnd X c k n) = (if fHas X c k n = 0 then 2 * (fnd X c k n).2.2 + 1 else (if fLo X c k n (fnd X c k n) < (if 2 * (fnd X c k n).2.2 + 1 < fOh X c k n then 2 * (fnd X c k n).2.2 + 1 else fOh X c k n) then (if 2 * (fnd X c k n).2.2 + 1 < fOh X c k n then 2 * (fnd X c k n).2.2 + 1 else fOh X c k n) else fLo X c k n (fnd X c k n))) := by unfold fHi; rw [if_neg hh]
      have f2 : (fnd X c k (n + 1)).2.1 = fLo X c k n (fnd X c k n) := rfl
      have f3 : (fnd X c k (n + 1)).2.2 = fHi X c k n (fnd X c k n) := rfl
      have f1 : (fnd X c k (n + 1)).1 = 1 := by
        rw [e1]
        show (fnd X c k n).1 ||| fHas X c k n = 1
        rw [t1]
        unfold fHas
        split <;> rfl
      rw [t2] at e2
      generalize (fnd X c k n).2.1 = lo at *
      generalize (fnd X c k n).2.2 = hi at *
      have q1 := i_half t3
      have q2 := i_dbl (x := hi) (by omega) (by omega)
      have lo1 : ¬ lo = -1 := fun z => by rw [z] at t3; omega
      by_cases ho : oL = -1
      · have hHas : fHas X c k n = 0 := by unfold fHas; rw [hX45, if_pos ho]
        rw [if_pos hHas] at k1 k2
        refine ⟨fun z => by rw [f1] at z; exact absurd z (by decide), fun _ => ⟨f1, ?_, ?_, ?_, ?_⟩⟩
        · rw [e2, f2, f3, k1, k2]
          unfold jSt jFi
          rw [hX45, if_pos ho, if_pos ho, if_neg lo1, if_neg lo1]
          refine Prod.ext rfl (i_ext ?_)
          show (if lo / 2 < 2 * hi + 1 then 2 * hi + 1 else lo / 2).toInt = (2 * hi + 1).toInt
          rw [i_max, q1, q2]
          omega
        · rw [f2, k1, q1]; omega
        · rw [f2, f3, k1, k2, q1, q2]; omega
        · rw [f3, k2, q2, p3]; omega
      · have ho2 := b1.resolve_left ho
        have hHas : ¬ fHas X c k n = 0 := by unfold fHas; rw [hX45, if_neg ho]; decide
        rw [if_neg hHas, hX45] at k1
        rw [if_neg hHas, k1] at k2
        have k3 : fOh X c k n = (if oL < oH then oH else oL) := by unfold fOh; rw [hX45, hX46]
        rw [k3] at k2
        have v1 : (fLo X c k n (fnd X c k n)).toInt = max oL.toInt (lo.toInt / 2) := by rw [k1, i_max, q1]
        have v2 : (fHi X c k n (fnd X c k n)).toInt = max (max oL.toInt (lo.toInt / 2)) (min (2 * hi.toInt + 1) (max oL.toInt oH.toInt)) := by
          rw [k2, i_max, i_max, q1, i_min, q2, i_max]
        refine ⟨fun z => by rw [f1] at z; exact absurd z (by decide), fun _ => ⟨f1, ?_, ?_, ?_, ?_⟩⟩
        · rw [e2, f2, f3]
          unfold jSt jFi
          rw [hX45, b4, if_neg ho, if_neg ho, if_neg ho, if_neg lo1, if_neg lo1]
          refine Prod.ext (i_ext ?_) (i_ext ?_)
          · show (if lo / 2 < oL then oL else lo / 2).toInt = _
            rw [v1, i_max, q1]; omega
          · show (if (if lo / 2 < oL then oL else lo / 2) < (if (if oL < oH then oH else oL) < 2 * hi + 1 then (if oL < oH then oH else oL) else 2 * hi + 1) then (if (if oL < oH then oH else oL) < 2 * hi + 1 then (if oL < oH then oH else oL) else 2 * hi + 1) else (if lo / 2 < oL then oL else lo / 2)).toInt = _
            rw [v2, i_max, i_max, q1, i_min, i_max, q2]; omega
        · rw [f2, v1]; omega
        · rw [f2, f3, v1, v2]; omega
        · rw [f3, v2, p3]; omega
theorem jn_lo {X : bS} {c k n : Nat} (h : bJ X) (hc : c < 36) (hk : k < 4) (hn : n ≤ 10) : ((fnd X c k n).1 = 0 ↔ (jn X c k n).1 = -1) := by
  obtain ⟨a, b⟩ := j_ok h hc hk n hn
  constructor
  · intro z
    rw [a z]
  · intro z
    refine Classical.byContradiction fun y => ?_
    obtain ⟨-, e, l0, -⟩ := b y
    rw [e] at z
    change (fnd X c k n).2.1 = -1 at z
    rw [z] at l0
    exact absurd l0 (by decide)
/-- joined, as numbers -/
theorem jn_num {X : bS} {c k n : Nat} {o : Int32} (h : bJ X) (hc : c < 36) (hk : k < 4) (hn : n ≤ 10) : (if o = 0 then (jn X c k n).1 else (jn X c k n).2) = if (fnd X c k n).1 = 0 then -1 else vNum (fnd X c k n) o := by
  obtain ⟨a, b⟩ := j_ok h hc hk n hn
  by_cases z : (fnd X c k n).1 = 0
  · rw [if_pos z, a z]
    split <;> rfl
  · obtain ⟨-, e, -⟩ := b z
    rw [if_neg z, e]
    rfl
