/-! THE CLASS's init: the loops of cells and kinds -/
section B9893
variable {G : mG} {M0 : mM} {am : Nat} {fs : List Value} {bl : List (Nat × Nat × mE)}
theorem wMk.none {M : mM} {l : List (Nat × mE)} (h : wMk M0 M am fs l bl) {q : Nat} (hq : M q = Option.none) : M0 q = Option.none := by
  cases hh : M0 q with
  | none => rfl
  | some x =>
    have hne : q ≠ am := fun z => by
      have := h.2.2.1
      rw [← z, hq] at this
      cases this
    rw [h.2.2.2 q (by rw [hh]; exact fun z => by cases z) hne, hh] at hq
    cases hq
theorem tb_s (c : Nat) (u : Nat → Nat) (q : Nat) : va_up (tb c u) c (some q) = tb (c + 1) fun i => if i = c then q else u i := by
  funext i
  unfold va_up tb
  by_cases z : i = c
  · rw [if_pos z, if_pos (by omega)]
    exact congrArg some (if_pos z).symm
  · rw [if_neg z]
    by_cases y : i < c
    · rw [if_pos y, if_pos (by omega)]
      exact congrArg some (if_neg z).symm
    · rw [if_neg y, if_neg (by omega)]
/-- N objects behind one another, in a table -/
def wRow (l : List (Nat × mE)) (lo c : Nat) (v : mE) (u : Nat → Nat) : Prop := (∀ i, i < c → (u i, v) ∈ l ∧ lo < u i) ∧ ∀ i, i + 1 < c → u i < u (i + 1)
theorem w_ini142 {P : mM → Prop} {t lo : Nat} (hfs : fs[0]? = some (.ref t)) (ht0 : M0 t = Option.none) (hbt : ∀ p, p ∈ bl → ∀ j, j < p.2.1 → p.1 + j ≠ t) : ∀ (n c q r : Nat) (M : mM) (l : List (Nat × mE)) (u : Nat → Nat), c + n = 36 → n < q → 6 * n ≤ r → wMk M0 M am fs ((t, .inl (6, 36, mRs (tb c u))) :: l) bl → (∀ p, p ∈ l → p.1 ≠ t) → (∃ v, (lo, v) ∈ l) → wRow l lo c (.inr (1, [.int 0, .int 0, .int (-1), .int 3, .int 0])) u →
    (∀ M' l' u', wMk M0 M' am fs ((t, .inl (6, 36, mRs (tb 36 u'))) :: l') bl → (∀ p, p ∈ l → p ∈ l') → (∀ p, p ∈ l' → p.1 ≠ t) → wRow l' lo 36 (.inr (1, [.int 0, .int 0, .int (-1), .int 3, .int 0])) u' → ∃ n169, wl_X1_init_169 G P n169 (r - 6 * n) M' am 0) → wl_X1_init_142 G P q r M am (Int32.ofNat c)
  | _, _, 0, _, _, _, _, _, hq, _, _, _, _, _, _ => absurd hq (Nat.not_lt_zero _)
  | 0, c, q + 1, r, M, l, u, hc, _, _, h, ht, _, hr, kk => by
    have : c = 36 := by omega
    subst this
    unfold wl_X1_init_142
    exact ⟨fun _ => kk M l u h (fun _ hp => hp) ht hr, fun z => absurd (by decide) z⟩
  | n + 1, c, q + 1, r, M, l, u, hc, hq, hr6, h, ht, ⟨lv, hlo⟩, hr, kk => by
    have ec : (Int32.ofNat c).toNatClampNeg = c := i_nn (by omega)
    have hta := (h.1 _ List.mem_cons_self).2
    unfold wl_X1_init_142
    refine ⟨fun z => absurd ((i_le (a := 36) (by decide) (by omega)).mp z) (by omega), fun _ => gfa_ h.2.2.1 hfs ⟨by omega, fun x hx => ?_⟩⟩
    have hlt := h.lt hx
    have tx : t < x := hlt.2.1 _ List.mem_cons_self
    have fx := hx x (Nat.le_refl _)
    unfold wp_X2_init wp_X2_init_2
    refine ⟨_, mset_s _ _ _, Nat.le_of_ble_eq_true rfl, ?_⟩
    rw [mset_mset]
    refine ⟨_, mset_s _ _ _, Nat.le_of_ble_eq_true rfl, ?_⟩
    rw [mset_mset]
    refine ⟨_, mset_s _ _ _, Nat.le_of_ble_eq_true rfl, ?_⟩
    rw [mset_mset]
    refine ⟨_, mset_s _ _ _, Nat.le_of_ble_eq_true rfl, ?_⟩
    rw [mset_mset]
    have h1 := h.new hx (.inr (1, [.int 0, .int 0, .int (-1), .int 3, .int 0]))
    have h2 : wMk M0 (mset M x (.inr (1, [.int 0, .int 0, .int (-1), .int 3, .int 0]))) am fs ((t, .inl (6, 36, mRs (tb c u))) :: (x, .inr (1, [.int 0, .int 0, .int (-1), .int 3, .int 0])) :: l) bl := h1.sub fun p hp => by
      simp only [List.mem_cons] at hp ⊢
      rcases hp with z | z | z
      · exact Or.inr (Or.inl z)
      · exact Or.inl z
      · exact Or.inr (Or.inr z)
    have ht2 : ∀ p, p ∈ (x, (.inr (1, [.int 0, .int 0, .int (-1), .int 3, .int 0]) : mE)) :: l → p.1 ≠ t := fun p hp => by
      rcases List.mem_cons.mp hp with rfl | hp
      · show x ≠ t
        omega
      · exact ht p hp
    have h3 := h2.set ht2 hbt ht0 (.inl (6, 36, mRs (va_up (tb c u) c (some x))))
    rw [tb_s] at h3
    refine ⟨isc_ (mset_s _ _ _), 36, _, (h2.1 _ List.mem_cons_self).1, i_vp (by omega) (by omega), ?_⟩
    rw [ec, i_s, tb_s]
    refine w_ini142 hfs ht0 hbt n (c + 1) q (r - (5 + 1)) _ _ (fun i => if i = c then x else u i) (by omega) (by omega) (by omega) h3 ht2 ⟨lv, List.mem_cons_of_mem _ hlo⟩ ⟨fun i hi => ?_, fun i hi => ?_⟩ fun M' l' u' k1 k2 k3 k4 => ?_
    · show ((if i = c then x else u i), _) ∈ _ ∧ lo < (if i = c then x else u i)
      by_cases z : i = c
      · rw [if_pos z]
        exact ⟨List.mem_cons_self, hlt.2.1 _ (List.mem_cons_of_mem _ hlo)⟩
      · rw [if_neg z]
        obtain ⟨a1, a2⟩ := hr.1 i (by omega)
        exact ⟨List.mem_cons_of_mem _ a1, a2⟩
    · have z1 : ¬ i = c := by omega
      show (if i = c then x else u i) < (if i + 1 = c then x else u (i + 1))
      rw [if_neg z1]
      by_cases z : i + 1 = c
      · rw [if_pos z]
        exact hlt.2.1 _ (List.mem_cons_of_mem _ (hr.1 i (by omega)).1)
      · rw [if_neg z]
        exact hr.2 i (by omega)
    · have := kk M' l' u' k1 (fun p hp => k2 p (List.mem_cons_of_mem _ hp)) k3 k4
      rw [show r - (5 + 1) - 6 * n = r - 6 * (n + 1) by omega]
      exact this
theorem w_ini169 {P : mM → Prop} {t lo : Nat} (hfs : fs[1]? = some (.ref t)) (ht0 : M0 t = Option.none) (hbt : ∀ p, p ∈ bl → ∀ j, j < p.2.1 → p.1 + j ≠ t) : ∀ (n c q r : Nat) (M : mM) (l : List (Nat × mE)) (u : Nat → Nat), c + n = 4 → n < q → 4 * n ≤ r → wMk M0 M am fs ((t, .inl (7, 4, mRs (tb c u))) :: l) bl → (∀ p, p ∈ l → p.1 ≠ t) → (∃ v, (lo, v) ∈ l) → wRow l lo c (.inr (2, [.int 0, .int 2, .int 1])) u →
    (∀ M' l' u', wMk M0 M' am fs ((t, .inl (7, 4, mRs (tb 4 u'))) :: l') bl → (∀ p, p ∈ l → p ∈ l') → (∀ p, p ∈ l' → p.1 ≠ t) → wRow l' lo 4 (.inr (2, [.int 0, .int 2, .int 1])) u' → ∃ n195, wl_X1_init_195 G P n195 (r - 4 * n) M' am 0) → wl_X1_init_169 G P q r M am (Int32.ofNat c)
  | _, _, 0, _, _, _, _, _, hq, _, _, _, _, _, _ => absurd hq (Nat.not_lt_zero _)
  | 0, c, q + 1, r, M, l, u, hc, _, _, h, ht, _, hr, kk => by
    have : c = 4 := by omega
    subst this
    unfold wl_X1_init_169
    exact ⟨fun _ => kk M l u h (fun _ hp => hp) ht hr, fun z => absurd (by decide) z⟩
  | n + 1, c, q + 1, r, M, l, u, hc, hq, hr4, h, ht, ⟨lv, hlo⟩, hr, kk => by
    have ec : (Int32.ofNat c).toNatClampNeg = c := i_nn (by omega)
    have hta := (h.1 _ List.mem_cons_self).2
    unfold wl_X1_init_169
    refine ⟨fun z => absurd ((i_le (a := 4) (by decide) (by omega)).mp z) (by omega), fun _ => gfa_ h.2.2.1 hfs ⟨by omega, fun x hx => ?_⟩⟩
    have hlt := h.lt hx
    have tx : t < x := hlt.2.1 _ List.mem_cons_self
    have fx := hx x (Nat.le_refl _)
    unfold wp_X3_init
    refine ⟨_, mset_s _ _ _, Nat.le_of_ble_eq_true rfl, ?_⟩
    rw [mset_mset]
    refine ⟨_, mset_s _ _ _, Nat.le_of_ble_eq_true rfl, ?_⟩
    rw [mset_mset]
    have h1 := h.new hx (.inr (2, [.int 0, .int 2, .int 1]))
    have h2 : wMk M0 (mset M x (.inr (2, [.int 0, .int 2, .int 1]))) am fs ((t, .inl (7, 4, mRs (tb c u))) :: (x, .inr (2, [.int 0, .int 2, .int 1])) :: l) bl := h1.sub fun p hp => by
      simp only [List.mem_cons] at hp ⊢
      rcases hp with z | z | z
      · exact Or.inr (Or.inl z)
      · exact Or.inl z
      · exact Or.inr (Or.inr z)
    have ht2 : ∀ p, p ∈ (x, (.inr (2, [.int 0, .int 2, .int 1]) : mE)) :: l → p.1 ≠ t := fun p hp => by
      rcases List.mem_cons.mp hp with rfl | hp
      · show x ≠ t
        omega
      · exact ht p hp
    have h3 := h2.set ht2 hbt ht0 (.inl (7, 4, mRs (va_up (tb c u) c (some x))))
    rw [tb_s] at h3
    refine ⟨isc_ (mset_s _ _ _), 4, _, (h2.1 _ List.mem_cons_self).1, i_vp (by omega) (by omega), ?_⟩
    rw [ec, i_s, tb_s]
    refine w_ini169 hfs ht0 hbt n (c + 1) q (r - (3 + 1)) _ _ (fun i => if i = c then x else u i) (by omega) (by omega) (by omega) h3 ht2 ⟨lv, List.mem_cons_of_mem _ hlo⟩ ⟨fun i hi => ?_, fun i hi => ?_⟩ fun M' l' u' k1 k2 k3 k4 => ?_
    · show ((if i = c then x else u i), _) ∈ _ ∧ lo < (if i = c then x else u i)
      by_cases z : i = c
      · rw [if_pos z]
        exact ⟨List.mem_cons_self, hlt.2.1 _ (List.mem_cons_of_mem _ hlo)⟩
      · rw [if_neg z]
        obtain ⟨a1, a2⟩ := hr.1 i (by omega)
        exact ⟨List.mem_cons_of_mem _ a1, a2⟩
    · have z1 : ¬ i = c := by omega
      show (if i = c then x else u i) < (if i + 1 = c then x else u (i + 1))
      rw [if_neg z1]
      by_cases z : i + 1 = c
      · rw [if_pos z]
        exact hlt.2.1 _ (List.mem_cons_of_mem _ (hr.1 i (by omega)).1)
      · rw [if_neg z]
        exact hr.2 i (by omega)
    · have := kk M' l' u' k1 (fun p hp => k2 p (List.mem_cons_of_mem _ hp)) k3 k4
      rw [show r - (3 + 1) - 4 * n = r - 4 * (n + 1) by omega]
      exact this
end B9893
