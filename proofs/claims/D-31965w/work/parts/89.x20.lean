/-! THE CLASS's errors -/
def xTF (X : bS) (w : Nat) : Nat → Nat → (Nat → Int32) → Nat → Int32
  | _, 0, f => f
  | j, n + 1, f => xTF X w (j + 1) n (upd f (nn (X 66 w j 0)) (f (nn (X 66 w j 0)) + X 67 w j 0))
def xTG (X : bS) : Nat → Nat → (Nat → Int32) → Nat → Int32
  | _, 0, f => f
  | i, n + 1, f => xTG X (i + 1) n (if X 34 i 0 0 = 1 then xTF X i 0 (xN X (4 + i)) f else f)
def xSd (X : bS) (k c : Nat) (a : Int32) : Nat → Int32
  | 0 => a
  | d + 1 => xSd X k c a d + X 44 k c d
def xSc (X : bS) (k : Nat) : Nat → Int32
  | 0 => 0
  | c + 1 => xSd X k c (xSc X k c) 4
def xEk (X : bS) : Nat → Int32
  | 0 => 0
  | k + 1 => xEk X k + (if xSc X k 3 = xTG X 0 (xN X 3) (fun _ => 0) k then 0 else 1)
def xErr (X : bS) : Int32 := xEk X 4
section B89
variable {G : mG} {b : Nat} {κ : xK} {M : mM} {ad : xA} {X : bS}
theorem x_er61 {P : Int32 → mM → Prop} {K6 : Nat → mM → Nat → Nat → Int32 → Prop} {w u v N : Nat} {x2 : Int32} (hI : xI X) (hw : w < xN X 3) (hN : xN X (4 + w) = N) (hK : ∀ j, j < xN X (4 + w) → vp_in (X 66 w j 0) 4) (hu : xO κ ad X u) (huv : u ≠ v) : ∀ (n j q : Nat) (M : mM) (f : Nat → Int32), j + n = N → n < q → rX κ M ad X → M u = some (true, .inl (0, 4, mIs f)) → xIt κ M ad X v (4 + w) j → (∀ M', rX κ M' ad X → M' u = some (true, .inl (0, 4, mIs (xTF X w j n f))) → K6 b M' κ.2.2.1 u (x2 + 1)) → wl_X1_errors_61 G P K6 q b M κ.2.2.1 u x2 v
  | _, _, 0, _, _, _, hq, _, _, _, _ => absurd hq (Nat.not_lt_zero _)
  | n, j, q + 1, M, f, hj, hq, h, hM, hi, kk => by
    have hL : 4 + w < 4 + xN X 3 := by omega
    obtain ⟨hx, lr, hv⟩ := id hi
    unfold wl_X1_errors_61 wb_X1_errors_99
    refine ⟨isc_ hv, x_hasNext h hI hL hi (by omega) (fun z => ⟨fun y => absurd y (by decide), fun _ => ⟨isc_ hv, x_next h hI hL hi z fun M1 h1 hi1 hM1 => ?_⟩⟩) fun z => ⟨fun _ => ?_, fun y => absurd rfl y⟩⟩
    · obtain ⟨n, rfl⟩ : ∃ n', n = n' + 1 := ⟨n - 1, by omega⟩
      have nt := h1.note hw z
      have k4 := hK j z
      have e1 : M1 u = some (true, .inl (0, 4, mIs f)) := (hM1 u huv).trans hM
      refine ⟨isc_ nt, isc_ nt, ?_⟩
      unfold wp_X18_kind wp_X18_many
      refine gfi_ nt rfl (ldi_ e1 k4 ⟨isc_ nt, gfi_ nt rfl ⟨4, f, e1, k4, ?_⟩⟩)
      obtain ⟨hx1, lr1, hv1⟩ := hi1
      refine x_er61 hI hw hN hK hu huv n (j + 1) q _ _ (by omega) (by omega) (h1.oth hu _) (mset_s _ _ _) ⟨hx1, lr1, ?_⟩ kk
      rw [mset_n (Ne.symm huv)]
      exact hv1
    · have : n = 0 := by omega
      subst this
      exact kk M h hM
theorem x_er6 {P : Int32 → mM → Prop} {u N : Nat} (hI : xI X) (hN : xN X 3 = N) (hK : ∀ w j, w < xN X 3 → j < xN X (4 + w) → vp_in (X 66 w j 0) 4) (hu : xO κ ad X u) : ∀ (n i q b : Nat) (M : mM) (f : Nat → Int32), i + n = N → n < q → 5 * n ≤ b → rX κ M ad X → M u = some (true, .inl (0, 4, mIs f)) → (∀ M' b', rX κ M' ad X → M' u = some (true, .inl (0, 4, mIs (xTG X i n f))) → ∃ n109, wl_X1_errors_109 G P n109 b' M' κ.2.2.1 u 0 0) → wl_X1_errors_6 G P q b M κ.2.2.1 u (Int32.ofNat i)
  | _, _, 0, _, _, _, _, hq, _, _, _, _ => absurd hq (Nat.not_lt_zero _)
  | 0, i, q + 1, b, M, f, hi, _, hb, h, hM, kk => by
    have : i = N := by omega
    subst this
    have hL : 3 < 4 + xN X 3 := by omega
    obtain ⟨e, -⟩ := hI.z hL
    unfold wl_X1_errors_6
    exact gfa_ h.main rfl ⟨isc_ (h.list hL), x_size h hL ⟨fun _ => kk M b h hM, fun z => absurd (by rw [e, hN]; exact Int32.le_refl _) z⟩⟩
  | n + 1, i, q + 1, b, M, f, hi, hq, hb, h, hM, kk => by
    have hL : 3 < 4 + xN X 3 := by omega
    obtain ⟨e, e2⟩ := hI.z hL
    have hi3 : i < xN X 3 := by omega
    have hL4 : 4 + i < 4 + xN X 3 := by omega
    have hv : vp_in (Int32.ofNat i) (xN X 3) := i_vp (by omega) hi3
    have ei : nn (Int32.ofNat i) = i := i_nn (by omega)
    have ha := h.at (xl24 hL hi3)
    unfold wl_X1_errors_6 wb_X1_errors_99
    refine gfa_ h.main rfl ⟨isc_ (h.list hL), x_size h hL ⟨fun z => ?_, fun _ => gfa_ h.main rfl ⟨isc_ (h.list hL), x_get h hI hL hv ?_⟩⟩⟩
    · rw [e] at z
      have := (i_le (by omega) (by omega)).mp z
      omega
    · rw [ei]
      refine ⟨isc_ ha, gfi_ ha rfl ⟨fun z => ?_, fun z => gfa_ h.main rfl ⟨isc_ (h.list hL), x_get h hI hL hv ?_⟩⟩⟩
      · rw [i_s]
        refine x_er6 hI hN hK hu n (i + 1) q b M f (by omega) (by omega) (by omega) h hM fun M' b' h' hM' => kk M' b' h' ?_
        rw [show xTG X i (n + 1) f = xTG X (i + 1) n (if X 34 i 0 0 = 1 then xTF X i 0 (xN X (4 + i)) f else f) from rfl, if_neg z]
        exact hM'
      · rw [ei]
        refine ⟨isc_ ha, gfa_ ha rfl ⟨isc_ (h.list hL4), 5, b - 5, by omega, x_iter h hL4 (by omega) fun v M1 hfv h1 hi1 hM1 => ?_⟩⟩
        have huv : u ≠ v := fun y => by rw [← y, hM] at hfv; cases hfv
        refine ⟨xN X (4 + i) + 1, x_er61 hI hi3 rfl (fun j => hK i j hi3) hu huv (xN X (4 + i)) 0 _ M1 f (Nat.zero_add _) (Nat.lt_succ_self _) h1 ((hM1 u huv).trans hM) hi1 fun M2 h2 hM2 => ?_⟩
        rw [i_s]
        refine x_er6 hI hN hK hu n (i + 1) q (b - 5) M2 _ (by omega) (by omega) (by omega) h2 hM2 fun M' b' h' hM' => kk M' b' h' ?_
        rw [show xTG X i (n + 1) f = xTG X (i + 1) n (if X 34 i 0 0 = 1 then xTF X i 0 (xN X (4 + i)) f else f) from rfl, if_pos z]
        exact hM'
theorem x_er190 {P : Int32 → mM → Prop} {x2 : Int32} {N : Nat} (h : rX κ M ad X) (hJ : bJ X) (hY : X 2 0 0 0 = Int32.ofNat N) (hN : N ≤ 9) (kk : P x2 M) : ∀ (n c q : Nat), c + n = 144 * (N + 1) → n < q → wl_X1_errors_190 G P q b M κ.2.2.1 x2 (Int32.ofNat c)
  | n, c, 0, hc, hq => absurd hq (Nat.not_lt_zero _)
  | 0, c, q + 1, hc, _ => by
    have eb : 144 * (Int32.ofNat N + 1) = Int32.ofNat (144 * (N + 1)) := by
      rw [i_s]
      exact (Int32.ofNat_mul 144 (N + 1)).symm
    unfold wl_X1_errors_190
    refine gfi_ h.main rfl ?_
    rw [hY, eb, hc.symm.trans (Nat.add_zero c)]
    exact ⟨fun _ => kk, fun z => absurd (Int32.le_refl _) z⟩
  | n + 1, c, q + 1, hc, hq => by
    have eb : 144 * (Int32.ofNat N + 1) = Int32.ofNat (144 * (N + 1)) := by
      rw [i_s]
      exact (Int32.ofNat_mul 144 (N + 1)).symm
    have hcb : c < 1440 := by omega
    have all : ∀ c, c < 1440 → vp_in (Int32.ofNat c / 36 / 4) 10 ∧ vp_in (Int32.ofNat c / 36 - Int32.ofNat c / 36 / 4 * 4) 4 ∧ vp_in (Int32.ofNat c - Int32.ofNat c / 36 * 36) 36 := fun c hc => by
      have h36 : Int32.ofNat c / 36 = Int32.ofNat (c / 36) := by
        refine i_ext ?_
        rw [Int32.toInt_div, Int32.toInt_ofNat_of_lt (by omega), Int32.toInt_ofNat_of_lt (by omega)]
        show ((c : Int).tdiv 36).bmod (2 ^ 32) = ((c / 36 : Nat) : Int)
        rw [Int.tdiv_eq_ediv_of_nonneg (by omega), Int.bmod_eq_of_le (by omega) (by omega)]
        rfl
      have h4 : Int32.ofNat (c / 36) / 4 = Int32.ofNat (c / 36 / 4) := by
        refine i_ext ?_
        rw [Int32.toInt_div, Int32.toInt_ofNat_of_lt (by omega), Int32.toInt_ofNat_of_lt (by omega)]
        show (((c / 36 : Nat) : Int).tdiv 4).bmod (2 ^ 32) = ((c / 36 / 4 : Nat) : Int)
        rw [Int.tdiv_eq_ediv_of_nonneg (by omega), Int.bmod_eq_of_le (by omega) (by omega)]
        rfl
      have sub : ∀ a d m : Nat, a < 2000 → d * m ≤ a → Int32.ofNat a - Int32.ofNat d * Int32.ofNat m = Int32.ofNat (a - d * m) := fun a d m h1 h2 => by
        rw [← Int32.ofNat_mul]
        exact (Int32.ofNat_sub a (d * m) h2).symm
      rw [h36, h4]
      refine ⟨i_vp (by omega) (by omega), ?_, ?_⟩
      · rw [show (4 : Int32) = Int32.ofNat 4 from rfl, sub (c / 36) (c / 36 / 4) 4 (by omega) (by omega)]
        exact i_vp (by omega) (by omega)
      · rw [show (36 : Int32) = Int32.ofNat 36 from rfl, sub c (c / 36) 36 (by omega) (by omega)]
        exact i_vp (by omega) (by omega)
    obtain ⟨v1, v2, v3⟩ := all c hcb
    have ih := x_er190 (P := P) h hJ hY hN kk n (c + 1) q (by omega) (by omega)
    unfold wl_X1_errors_190 wb_X1_errors_257
    refine gfi_ h.main rfl ?_
    rw [hY, eb]
    refine ⟨fun z => absurd ((i_le (by omega) (by omega)).mp z) (by omega), fun _ => ?_⟩
    intro g hg
    subst hg
    refine ⟨h.isc, x_joined h v3 v2 v1 ⟨h.isc, x_joined h v3 v2 v1 ?_⟩⟩
    have y10 := bLn v1
    obtain ⟨j0, j1⟩ := j_ok hJ (bLn v3) (bLn v2) (nn (Int32.ofNat c / 36 / 4) + 1) (by omega)
    have le : (jn X (nn (Int32.ofNat c - Int32.ofNat c / 36 * 36)) (nn (Int32.ofNat c / 36 - Int32.ofNat c / 36 / 4 * 4)) (nn (Int32.ofNat c / 36 / 4) + 1)).1 ≤ (jn X (nn (Int32.ofNat c - Int32.ofNat c / 36 * 36)) (nn (Int32.ofNat c / 36 - Int32.ofNat c / 36 / 4 * 4)) (nn (Int32.ofNat c / 36 / 4) + 1)).2 := by
      by_cases z : (fnd X (nn (Int32.ofNat c - Int32.ofNat c / 36 * 36)) (nn (Int32.ofNat c / 36 - Int32.ofNat c / 36 / 4 * 4)) (nn (Int32.ofNat c / 36 / 4) + 1)).1 = 0
      · rw [j0 z]
        exact Int32.le_refl _
      · obtain ⟨-, e, -, l1, -⟩ := j1 z
        rw [e]
        exact Int32.le_iff_toInt_le.mpr l1
    refine ⟨fun _ => ?_, fun z => absurd (by rw [if_pos rfl, if_neg (by decide)]; exact le) z⟩
    rw [i_s, Int32.add_zero]
    exact ih
theorem x_er129 {P : Int32 → mM → Prop} {K109 : Nat → mM → Nat → Nat → Int32 → Int32 → Prop} {K120 : Nat → mM → Nat → Nat → Int32 → Int32 → Int32 → Int32 → Prop} {u k c : Nat} {x2 a : Int32} (h : rX κ M ad X) (hk : k < 4) (hc : c < 3) (kk : K120 b M κ.2.2.1 u x2 (Int32.ofNat k) (xSd X k c a 4) (Int32.ofNat c + 1)) : ∀ (n d q : Nat), d + n = 4 → n < q → wl_X1_errors_129 G P K109 K120 q b M κ.2.2.1 u x2 (Int32.ofNat k) (xSd X k c a d) (Int32.ofNat c) (Int32.ofNat d)
  | _, _, 0, _, hq => absurd hq (Nat.not_lt_zero _)
  | 0, d, q + 1, hd, _ => by
    have : d = 4 := by omega
    subst this
    unfold wl_X1_errors_129
    exact ⟨fun _ => kk, fun z => absurd (by decide) z⟩
  | n + 1, d, q + 1, hd, hq => by
    obtain ⟨e1, e2⟩ := row3 k hk c hc
    have vd : vp_in (Int32.ofNat d) 4 := i_vp (by omega) (by omega)
    have ed : (Int32.ofNat d).toNatClampNeg = d := i_nn (by omega)
    have ih := x_er129 (P := P) (K109 := K109) (K120 := K120) (u := u) (x2 := x2) h hk hc kk n (d + 1) q (by omega) (by omega)
    unfold wl_X1_errors_129
    refine ⟨fun z => ?_, fun _ => gfa_ h.main rfl (lda_ (v := ad 28 1 (3 * k + c)) (h.at (xl0 (t := 9) (by decide))) e2 ?_ (ldi_ (h.at (xl28 (c := 1) (by decide) (by show 3 * k + c < 12; omega))) vd ?_))⟩
    · have := (i_lt (a := 3) (by decide) (by omega)).mp z
      omega
    · exact congrArg (fun j => some (ad 28 1 j)) e1
    · rw [ed, i_s]
      have et : xTab X 1 (3 * k + c) d = X 44 k c d := by
        show X 44 ((3 * k + c) / 3) ((3 * k + c) % 3) d = _
        rw [show (3 * k + c) / 3 = k by omega, show (3 * k + c) % 3 = c by omega]
      rw [et]
      exact ih
theorem x_er120 {P : Int32 → mM → Prop} {K109 : Nat → mM → Nat → Nat → Int32 → Int32 → Prop} {u k : Nat} {x2 : Int32} {f : Nat → Int32} (h : rX κ M ad X) (hM : M u = some (true, .inl (0, 4, mIs f))) (hk : k < 4) (kk : K109 b M κ.2.2.1 u (x2 + (if xSc X k 3 = f k then 0 else 1)) (Int32.ofNat k + 1)) : ∀ (n c q : Nat), c + n = 3 → n < q → wl_X1_errors_120 G P K109 q b M κ.2.2.1 u x2 (Int32.ofNat k) (xSc X k c) (Int32.ofNat c)
  | _, _, 0, _, hq => absurd hq (Nat.not_lt_zero _)
  | 0, c, q + 1, hc, _ => by
    have : c = 3 := by omega
    subst this
    have vk : vp_in (Int32.ofNat k) 4 := i_vp (by omega) hk
    have ek : (Int32.ofNat k).toNatClampNeg = k := i_nn (by omega)
    unfold wl_X1_errors_120 wb_X1_errors_180
    refine ⟨fun _ => ldi_ hM vk ?_, fun z => absurd (by decide) z⟩
    rw [ek]
    refine ⟨fun z => ?_, fun z => ?_⟩
    · rw [if_neg z] at kk; exact kk
    · rw [if_pos z] at kk; exact kk
  | n + 1, c, q + 1, hc, hq => by
    have ih := x_er120 (P := P) (K109 := K109) h hM hk kk n (c + 1) q (by omega) (by omega)
    unfold wl_X1_errors_120
    refine ⟨fun z => ?_, fun _ => ⟨5, x_er129 h hk (by omega) ?_ 4 0 5 (by omega) (by omega)⟩⟩
    · have := (i_le (a := 3) (by decide) (by omega)).mp z
      omega
    · rw [i_s]
      exact ih
theorem x_er109 {P : Int32 → mM → Prop} {u N : Nat} (h : rX κ M ad X) (hM : M u = some (true, .inl (0, 4, mIs (xTG X 0 (xN X 3) fun _ => 0)))) (hJ : bJ X) (hY : X 2 0 0 0 = Int32.ofNat N) (hN : N ≤ 9) (kk : P (xErr X) M) : ∀ (n k q : Nat), k + n = 4 → n < q → wl_X1_errors_109 G P q b M κ.2.2.1 u (xEk X k) (Int32.ofNat k)
  | _, _, 0, _, hq => absurd hq (Nat.not_lt_zero _)
  | 0, k, q + 1, hk, _ => by
    have : k = 4 := by omega
    subst this
    unfold wl_X1_errors_109
    exact ⟨fun _ => ⟨144 * (N + 1) + 1, x_er190 h hJ hY hN kk (144 * (N + 1)) 0 _ (Nat.zero_add _) (Nat.lt_succ_self _)⟩, fun z => absurd (by decide) z⟩
  | n + 1, k, q + 1, hk, hq => by
    have ih := x_er109 (P := P) h hM hJ hY hN kk n (k + 1) q (by omega) (by omega)
    unfold wl_X1_errors_109
    refine ⟨fun z => ?_, fun _ => ⟨4, x_er120 h hM (by omega) ?_ 3 0 4 (by omega) (by omega)⟩⟩
    · have := (i_le (a := 4) (by decide) (by omega)).mp z
      omega
    · rw [i_s]
      exact ih
theorem x_errors {P : Int32 → mM → Prop} (h : rX κ M ad X) (hI : xI X) (hJ : bJ X) (hY : bIn (X 2 0 0 0) 0 9 = true) (hK : ∀ w j, w < xN X 3 → j < xN X (4 + w) → vp_in (X 66 w j 0) 4) (hb : 210 ≤ b) (kk : ∀ M', rX κ M' ad X → P (xErr X) M') : wp_X1_errors G b P M κ.2.2.1 := by
  have h40 : xN X 3 ≤ 40 := i_nle (bIn_t hI.1).1 (bIn_t hI.1).2
  have eY : X 2 0 0 0 = Int32.ofNat (nn (X 2 0 0 0)) := i_of (bIn_t hY).1
  have lY : nn (X 2 0 0 0) ≤ 9 := i_nle (bIn_t hY).1 (bIn_t hY).2
  unfold wp_X1_errors
  refine ⟨by decide, by decide, by show 4 + 1 ≤ b; omega, fun q hq => ?_⟩
  have hfr := hq q (Nat.le_refl _)
  have hx := h.fresh hfr
  refine ⟨xN X 3 + 1, x_er6 hI rfl hK hx (xN X 3) 0 _ (b - (4 + 1)) _ (fun _ => 0) (Nat.zero_add _) (Nat.lt_succ_self _) (by omega) (h.oth hx _) (mset_s _ _ _) fun M1 b1 h1 hM1 => ⟨5, ?_⟩⟩
  exact x_er109 h1 hM1 hJ eY lY (kk M1 h1) 4 0 5 (by omega) (by omega)
end B89
