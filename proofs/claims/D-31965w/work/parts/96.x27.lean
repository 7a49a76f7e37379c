/-! THE CLASS's Reader, over plain memory -/
def nB (j : Nat) : Int32 := ([78, 69, 83, 87, 40] : List Int32).getD j 0
theorem nb8 : ∀ m : Nat, m < 256 → ((nB 0 = (Int32.ofNat m).toInt8.toInt32 ↔ m = 78) ∧ (nB 1 = (Int32.ofNat m).toInt8.toInt32 ↔ m = 69) ∧ (nB 2 = (Int32.ofNat m).toInt8.toInt32 ↔ m = 83) ∧ (nB 3 = (Int32.ofNat m).toInt8.toInt32 ↔ m = 87) ∧ (nB 4 = (Int32.ofNat m).toInt8.toInt32 ↔ m = 40)) ∧ (itemB (Int32.ofNat m) = true ↔ (m = 78 ∨ m = 69 ∨ m = 83 ∨ m = 87 ∨ m = 40)) ∧ narrow .char (.int (Int32.ofNat m)) = .int (Int32.ofNat m) ∧ ¬ Int32.ofNat m < 0 ∧ ¬ (255 : Int32) < Int32.ofNat m := by decide +kernel
/-- the constants and the text that a reader reads -/
def kS (G : mG) (bv : Nat) (M : mM) : Prop := M (G.2.2 2) = some (false, .inr (18, [.ref bv, .int 0])) ∧ M bv = some (false, .inl (3, 5, mIs nB))
def kT (s sv len : Nat) (g : Nat → Int32) (M : mM) : Prop := M s = some (true, .inr (18, [.ref sv, .int 0, .int 0, .int 0])) ∧ M sv = some (true, .inl (3, len, mIs g))
def sg (len : Nat) (g : Nat → Int32) (p : Nat) : Int32 := if len ≤ p then 0 else ((g p &&& 255).toUInt32 % 65536).toInt32
/-- every byte of the text is a sign's -/
def tOk (len : Nat) (g : Nat → Int32) : Prop := len ≤ 60 ∧ ∀ p, p < len → ∃ m : Nat, 0 < m ∧ m < 256 ∧ g p = bt8 (Int32.ofNat m)
theorem sg_m {len : Nat} {g : Nat → Int32} (h : tOk len g) (p : Nat) : ∃ m : Nat, m < 256 ∧ sg len g p = Int32.ofNat m ∧ (p < len → 0 < m) ∧ (len ≤ p → m = 0) := by
  unfold sg
  by_cases z : len ≤ p
  · exact ⟨0, by omega, if_pos z, fun y => by omega, fun _ => rfl⟩
  · obtain ⟨m, m0, m1, e⟩ := h.2 p (by omega)
    refine ⟨m, m1, ?_, fun _ => m0, fun y => absurd y z⟩
    rw [if_neg z, e]
    exact bt8_r m m1
/-- a reader at a place -/
def rdr (M : mM) (ρ s p : Nat) : Prop := M ρ = some (true, .inr (5, [.ref s, .int (Int32.ofNat p)]))
section B96
variable {G : mG} {b bv s sv len ρ p : Nat} {g : Nat → Int32} {M : mM}
theorem r_slen {n : Nat} {w w' : Bool} {v : Nat} {f : Nat → Int32} {fs : List Value} {K : Int32 → mM → Prop} (h1 : M s = some (w, .inr (18, .ref v :: .int 0 :: fs))) (h2 : M v = some (w', .inl (3, n, mIs f))) (hn : n < 200) (kk : K (Int32.ofNat n) M) : wp_J5_length G b K M s := by
  unfold wp_J5_length wp_J5_coder wb_J5_coder_14
  refine gfa_ h1 rfl (aln_ h2 (by decide) ⟨isc_ h1, gfi_ h1 rfl ⟨rfl, ?_⟩⟩)
  show K (Int32.ofNat n >>> ((0 : Int32) &&& 31)) M
  rw [sh0_r n hn]
  exact kk
theorem r_idx (h : kS G bv M) {m : Nat} (hm : m < 256) {K : Int32 → mM → Prop} (yes : itemB (Int32.ofNat m) = true → ∀ v, ¬ v < 0 → K v M) (no : itemB (Int32.ofNat m) = false → K (-1) M) : wp_J5_indexOf G b K M (G.2.2 2) (Int32.ofNat m) := by
  obtain ⟨h1, h2⟩ := h
  obtain ⟨⟨n0, n1, n2, n3, n4⟩, hi, -, c0, c1⟩ := nb8 m hm
  unfold wp_J5_indexOf wp_J5_indexOf_2 wp_J5_isLatin1 wb_J5_isLatin1_17 wb_J5_isLatin1_18 wp_J19_indexOf wp_J19_canEncode_2 wb_J19_canEncode_2_15 wb_J19_canEncode_2_16 wp_J19_indexOfChar
  refine ⟨isc_ h1, isc_ h1, gfi_ h1 rfl ⟨fun z => absurd rfl z, fun _ => ⟨rfl, fun z => absurd z (by decide), fun _ => gfa_ h1 rfl ⟨isc_ h1, r_slen h1 h2 (by decide) ⟨fun z => absurd z c0, fun _ => ⟨fun z => absurd z c1, fun _ => ?_⟩⟩⟩⟩⟩⟩
  refine ⟨rfl, fun _ => ?_, fun z => absurd z (by decide)⟩
  intro g3 hg3
  have hg3 : g3 = 0 := hg3.trans (by decide)
  subst hg3
  refine aln_ h2 (by decide) ?_
  intro g5 hg5
  have hg5 : g5 = 5 := hg5.trans (by decide)
  subst hg5
  have ld : ∀ (j : Nat) (K' : Int32 → Prop), j < 5 → K' (nB j) → ldi M 3 bv (Int32.ofNat j) K' := fun j K' hj hk => ldi_ h2 (i_vp (by omega) hj) (by rw [show (Int32.ofNat j).toNatClampNeg = j from i_nn (by omega)]; exact hk)
  refine ⟨fun _ => ⟨6, ?_⟩, fun z => absurd (by decide) z⟩
  have yes' : m = 78 ∨ m = 69 ∨ m = 83 ∨ m = 87 ∨ m = 40 → ∀ v, ¬ v < 0 → K v M := fun z => yes (hi.mpr z)
  unfold wl_J19_indexOfChar_7
  refine ⟨fun z => absurd z (by decide), fun _ => ld 0 _ (by decide) ⟨fun a0 => ?_, fun a0 => yes' (Or.inl (n0.mp a0)) _ (by decide)⟩⟩
  unfold wl_J19_indexOfChar_7
  refine ⟨fun z => absurd z (by decide), fun _ => ld 1 _ (by decide) ⟨fun a1 => ?_, fun a1 => yes' (Or.inr (Or.inl (n1.mp a1))) _ (by decide)⟩⟩
  unfold wl_J19_indexOfChar_7
  refine ⟨fun z => absurd z (by decide), fun _ => ld 2 _ (by decide) ⟨fun a2 => ?_, fun a2 => yes' (Or.inr (Or.inr (Or.inl (n2.mp a2)))) _ (by decide)⟩⟩
  unfold wl_J19_indexOfChar_7
  refine ⟨fun z => absurd z (by decide), fun _ => ld 3 _ (by decide) ⟨fun a3 => ?_, fun a3 => yes' (Or.inr (Or.inr (Or.inr (Or.inl (n3.mp a3))))) _ (by decide)⟩⟩
  unfold wl_J19_indexOfChar_7
  refine ⟨fun z => absurd z (by decide), fun _ => ld 4 _ (by decide) ⟨fun a4 => ?_, fun a4 => yes' (Or.inr (Or.inr (Or.inr (Or.inr (n4.mp a4))))) _ (by decide)⟩⟩
  unfold wl_J19_indexOfChar_7
  refine ⟨fun _ => no ?_, fun z => absurd (by decide) z⟩
  cases hh : itemB (Int32.ofNat m) with
  | false => rfl
  | true =>
    rcases hi.mp hh with y | y | y | y | y
    · exact absurd (n0.mpr y) a0
    · exact absurd (n1.mpr y) a1
    · exact absurd (n2.mpr y) a2
    · exact absurd (n3.mpr y) a3
    · exact absurd (n4.mpr y) a4
theorem r_sign (hO : tOk len g) (hT : kT s sv len g M) (hr : rdr M ρ s p) (hp : p ≤ 1000) {K : Int32 → mM → Prop} (kk : K (sg len g p) M) : wp_X6_sign G b K M ρ := by
  obtain ⟨m, hm, em, -, -⟩ := sg_m hO p
  obtain ⟨-, -, nc, -, -⟩ := nb8 m hm
  have hl := hO.1
  unfold wp_X6_sign wb_X6_sign_29
  refine gfi_ hr rfl (gfa_ hr rfl ⟨isc_ hT.1, r_slen hT.1 hT.2 (by omega) ⟨fun z => ?_, fun z => gfa_ hr rfl (gfi_ hr rfl ⟨isc_ hT.1, ?_⟩)⟩⟩)
  · have z := (i_le (by omega) (by omega)).mp z
    have e : sg len g p = 0 := if_pos z
    rw [e] at kk
    exact ⟨rfl, kk⟩
  · have hlt : p < len := by
      rcases Nat.lt_or_ge p len with y | y
      · exact y
      · exact absurd ((i_le (by omega) (by omega)).mpr y) z
    have e : sg len g p = ((g p &&& 255).toUInt32 % 65536).toInt32 := if_neg (by omega)
    have ep : (Int32.ofNat p).toNatClampNeg = p := i_nn (by omega)
    unfold wp_J5_charAt wp_J5_isLatin1 wb_J5_isLatin1_17 wb_J5_isLatin1_18 wp_J19_charAt wp_J5_checkIndex wp_J18_checkIndex
    refine ⟨isc_ hT.1, gfi_ hT.1 rfl ⟨fun y => absurd rfl y, fun _ => ⟨rfl, fun y => absurd y (by decide), fun _ => gfa_ hT.1 rfl (aln_ hT.2 (by decide) ?_)⟩⟩⟩
    intro o1
    refine ⟨fun y => absurd y (Int32.not_lt.mpr ((i_le (a := 0) (by decide) (by omega)).mpr (Nat.zero_le _))), fun _ => ⟨fun _ => ldi_ hT.2 (i_vp (by omega) hlt) ?_, fun y => absurd ((i_lt (by omega) (by omega)).mpr hlt) y⟩⟩
    rw [ep, ← e, em]
    rw [em] at kk
    exact ⟨nc, nc, nc, kk⟩
theorem r_item (hS : kS G bv M) (hO : tOk len g) (hT : kT s sv len g M) (hr : rdr M ρ s p) (hp : p ≤ 1000) {K : Int32 → mM → Prop} (yes : itemB (sg len g p) = true → K 1 M) (no : itemB (sg len g p) = false → K 0 M) : wp_X6_isAtItem G b K M ρ := by
  obtain ⟨m, hm, em, -, -⟩ := sg_m hO p
  unfold wp_X6_isAtItem wb_X6_isAtItem_23 wb_X6_isAtItem_24
  refine ⟨isc_ hr, r_sign hO hT hr hp ⟨fun z => ⟨rfl, no ?_⟩, fun z => ⟨isc_ hr, r_sign hO hT hr hp ⟨isc_ hS.1, ?_⟩⟩⟩⟩
  · rw [z]; rfl
  · rw [em]
    rw [em] at yes no
    exact r_idx hS hm (fun y v hv => ⟨fun w => absurd w hv, fun _ => ⟨rfl, yes y⟩⟩) fun y => ⟨fun _ => ⟨rfl, no y⟩, fun w => absurd (by decide) w⟩
/-- a fault of a reading -/
def fltR (c : Nat) (M M' : mM) (u : Nat) (code : Int32) (p : Nat) : Prop := M u = none ∧ (∃ fs, M' u = some (true, .inr (c, fs)) ∧ fs[0]? = some (.int code) ∧ fs[1]? = some (.int (Int32.ofNat p))) ∧ ∀ a, a ≠ u → M' a = M a
theorem r_need (hr : rdr M ρ s p) {x code : Int32} {P : mM → Prop} {Xx : String → Nat → mM → Prop} (hb : 9 ≤ b) (ok : ¬ x = 0 → P M) (bad : x = 0 → ∀ u M', fltR 7 M M' u code p → Xx "Hidecount$ReadingFault" u M') : wp_X6_need G b P Xx M ρ x code := by
  unfold wp_X6_need
  refine ⟨ok, fun z => ⟨by omega, fun u hu => ?_⟩⟩
  have fu := hu u (Nat.le_refl _)
  have hne : ρ ≠ u := fun y => by unfold rdr at hr; rw [y, fu] at hr; cases hr
  unfold wp_X10_init wp_X9_init_X10 wp_J8_init_3_X10 wp_J7_init_3_X10 wb_J7_init_3_X10_60
  refine gfi_ (by rw [mset_n hne]; exact hr) rfl ⟨_, mset_s _ _ _, Nat.le_of_ble_eq_true rfl, ?_⟩
  rw [mset_mset]
  intro o2
  refine ⟨_, mset_s _ _ _, Nat.le_of_ble_eq_true rfl, ?_⟩
  rw [mset_mset]
  intro o4
  refine ⟨_, mset_s _ _ _, Nat.le_of_ble_eq_true rfl, ?_⟩
  rw [mset_mset]
  refine ⟨fun _ => ?_, fun y => absurd rfl y⟩
  refine ⟨_, mset_s _ _ _, Nat.le_of_ble_eq_true rfl, ?_⟩
  rw [mset_mset]
  refine ⟨_, mset_s _ _ _, Nat.le_of_ble_eq_true rfl, ?_⟩
  rw [mset_mset]
  refine ⟨_, mset_s _ _ _, Nat.le_of_ble_eq_true rfl, ?_⟩
  rw [mset_mset]
  refine ⟨fun y => absurd rfl y, fun _ => ?_⟩
  refine ⟨_, mset_s _ _ _, Nat.le_of_ble_eq_true rfl, ?_⟩
  rw [mset_mset]
  refine ⟨_, mset_s _ _ _, Nat.le_of_ble_eq_true rfl, ?_⟩
  rw [mset_mset]
  refine ⟨_, mset_s _ _ _, Nat.le_of_ble_eq_true rfl, ?_⟩
  rw [mset_mset]
  exact ⟨⟨_, mset_s _ _ _⟩, bad z u _ ⟨fu, ⟨_, mset_s _ _ _, rfl, rfl⟩, fun a ha => mset_n ha⟩⟩
end B96
