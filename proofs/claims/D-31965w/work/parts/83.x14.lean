/-! THE CLASS's tables: writes; noted, tell -/
section B83
variable {G : mG} {b : Nat} {κ : xK} {M : mM} {ad : xA} {X : bS}
theorem x_stT (h : rX κ M ad X) {m r f i j k : Nat} {x v : Int32} (hm : m < 4) (hr : r < xRows m) (hx : vp_in x (xCols m)) (hf : f = 43 ∨ f = 44 ∨ f = 45 ∨ f = 62) (ha : xTab (bU X f i j k v) m r = upd (xTab X m r) (nn x) v) (ho : ∀ m' r', m' < 4 → ¬ (m' = m ∧ r' = r) → xTab (bU X f i j k v) m' r' = xTab X m' r') {K : mM → Prop} (kk : ∀ M', rX κ M' ad (bU X f i j k v) → (∀ a, xO κ ad X a → M' a = M a) → K M') : sti M 0 (ad 28 m r) x v K := by
  have hl : xL X 28 m r := xl28 hm hr
  refine ⟨xCols m, fun c => xTab X m r c, h.at hl, hx, kk _ (h.putU hl ?_ ?_ ?_ fun i' j' hl' hn => ?_) fun a ha => mset_n (Ne.symm (ha.1 _ _ _ hl))⟩
  · rcases hf with rfl | rfl | rfl | rfl <;> decide
  · simp only [List.mem_cons, List.not_mem_nil, or_false]; omega
  · show (Sum.inl (0, xCols m, mIs (upd (fun c => xTab X m r c) (nn x) v)) : mE) = Sum.inl (0, xCols m, mIs fun c => xTab (bU X f i j k v) m r c)
    exact congrArg (fun g => (Sum.inl (0, xCols m, mIs g) : mE)) ha.symm
  · have hm' : i' < 4 := by
      rcases hl' with z | z | z | z | z | z | z | z | z | z <;> first | exact z.2.1 | omega | (have z := z.1; simp at z)
    show (Sum.inl (0, xCols i', mIs fun c => xTab (bU X f i j k v) i' j' c) : mE) = Sum.inl (0, xCols i', mIs fun c => xTab X i' j' c)
    exact congrArg (fun g => (Sum.inl (0, xCols i', mIs g) : mE)) (ho i' j' hm' hn)
theorem xTab_U {m r f i j k : Nat} {v : Int32} (hm : m < 4) (h : (m = 0 → f ≠ 43) ∧ (m = 1 → f ≠ 44) ∧ (m = 2 → f ≠ 45) ∧ (m = 3 → f ≠ 62)) : xTab (bU X f i j k v) m r = xTab X m r := by
  obtain ⟨h0, h1, h2, h3⟩ := h
  funext c
  rcases (by omega : m = 0 ∨ m = 1 ∨ m = 2 ∨ m = 3) with rfl | rfl | rfl | rfl
  · show bU X f i j k v 43 r c 0 = X 43 r c 0
    exact bU_f (Ne.symm (h0 rfl))
  · show bU X f i j k v 44 (r / 3) (r % 3) c = X 44 (r / 3) (r % 3) c
    exact bU_f (Ne.symm (h1 rfl))
  · show bU X f i j k v 45 (r / 4) c (r % 4) = X 45 (r / 4) c (r % 4)
    exact bU_f (Ne.symm (h2 rfl))
  · show bU X f i j k v 62 (r / 4) c (r % 4) = X 62 (r / 4) c (r % 4)
    exact bU_f (Ne.symm (h3 rfl))
theorem upd_ext {f g : Nat → Int32} {i : Nat} {v : Int32} (h1 : g i = v) (h2 : ∀ j, j ≠ i → g j = f j) : g = upd f i v := by
  funext j
  by_cases z : j = i
  · subst z; simp [upd, h1]
  · simp [upd, z, h2 j z]
theorem x_st43 (h : rX κ M ad X) {r : Nat} {x v : Int32} (hr : r < 3) (hx : vp_in x 4) {K : mM → Prop} (kk : ∀ M', rX κ M' ad (bU X 43 r (nn x) 0 v) → (∀ a, xO κ ad X a → M' a = M a) → K M') : sti M 0 (ad 28 0 r) x v K := by
  refine x_stT h (by decide) hr hx (Or.inl rfl) (upd_ext ?_ fun j hj => ?_) (fun m' r' hm' hn => ?_) kk
  · show bU X 43 r (nn x) 0 v 43 r (nn x) 0 = v
    exact bU_s _ _ _ _ _ _
  · show bU X 43 r (nn x) 0 v 43 r j 0 = X 43 r j 0
    exact if_neg fun z => hj z.2.2.1
  · rcases (by omega : m' = 0 ∨ m' = 1 ∨ m' = 2 ∨ m' = 3) with rfl | rfl | rfl | rfl
    · funext c
      show bU X 43 r (nn x) 0 v 43 r' c 0 = X 43 r' c 0
      exact bU_i fun z => hn ⟨rfl, z⟩
    · exact xTab_U (by decide) (by decide)
    · exact xTab_U (by decide) (by decide)
    · exact xTab_U (by decide) (by decide)
theorem x_st44 (h : rX κ M ad X) {k c : Nat} {x v : Int32} (hk : k < 4) (hc : c < 3) (hx : vp_in x 4) {K : mM → Prop} (kk : ∀ M', rX κ M' ad (bU X 44 k c (nn x) v) → (∀ a, xO κ ad X a → M' a = M a) → K M') : sti M 0 (ad 28 1 (3 * k + c)) x v K := by
  have e1 : (3 * k + c) / 3 = k := by omega
  have e2 : (3 * k + c) % 3 = c := by omega
  refine x_stT h (by decide) (by show 3 * k + c < 12; omega) hx (Or.inr (Or.inl rfl)) (upd_ext ?_ fun j hj => ?_) (fun m' r' hm' hn => ?_) kk
  · show bU X 44 k c (nn x) v 44 ((3 * k + c) / 3) ((3 * k + c) % 3) (nn x) = v
    rw [e1, e2, bU_s]
  · show bU X 44 k c (nn x) v 44 ((3 * k + c) / 3) ((3 * k + c) % 3) j = X 44 ((3 * k + c) / 3) ((3 * k + c) % 3) j
    exact if_neg fun z => hj z.2.2.2
  · rcases (by omega : m' = 0 ∨ m' = 1 ∨ m' = 2 ∨ m' = 3) with rfl | rfl | rfl | rfl
    · exact xTab_U (by decide) (by decide)
    · funext q
      show bU X 44 k c (nn x) v 44 (r' / 3) (r' % 3) q = X 44 (r' / 3) (r' % 3) q
      exact if_neg fun z => hn ⟨rfl, by omega⟩
    · exact xTab_U (by decide) (by decide)
    · exact xTab_U (by decide) (by decide)
theorem x_st45 (h : rX κ M ad X) {y k : Nat} {x v : Int32} (hy : y < 10) (hk : k < 4) (hx : vp_in x 36) {K : mM → Prop} (kk : ∀ M', rX κ M' ad (bU X 45 y (nn x) k v) → (∀ a, xO κ ad X a → M' a = M a) → K M') : sti M 0 (ad 28 2 (4 * y + k)) x v K := by
  have e1 : (4 * y + k) / 4 = y := by omega
  have e2 : (4 * y + k) % 4 = k := by omega
  refine x_stT h (by decide) (by show 4 * y + k < 40; omega) hx (Or.inr (Or.inr (Or.inl rfl))) (upd_ext ?_ fun j hj => ?_) (fun m' r' hm' hn => ?_) kk
  · show bU X 45 y (nn x) k v 45 ((4 * y + k) / 4) (nn x) ((4 * y + k) % 4) = v
    rw [e1, e2, bU_s]
  · show bU X 45 y (nn x) k v 45 ((4 * y + k) / 4) j ((4 * y + k) % 4) = X 45 ((4 * y + k) / 4) j ((4 * y + k) % 4)
    exact if_neg fun z => hj z.2.2.1
  · rcases (by omega : m' = 0 ∨ m' = 1 ∨ m' = 2 ∨ m' = 3) with rfl | rfl | rfl | rfl
    · exact xTab_U (by decide) (by decide)
    · exact xTab_U (by decide) (by decide)
    · funext q
      show bU X 45 y (nn x) k v 45 (r' / 4) q (r' % 4) = X 45 (r' / 4) q (r' % 4)
      exact if_neg fun z => hn ⟨rfl, by omega⟩
    · exact xTab_U (by decide) (by decide)
theorem x_st62 (h : rX κ M ad X) {y k : Nat} {x v : Int32} (hy : y < 10) (hk : k < 4) (hx : vp_in x 36) {K : mM → Prop} (kk : ∀ M', rX κ M' ad (bU X 62 y (nn x) k v) → (∀ a, xO κ ad X a → M' a = M a) → K M') : sti M 0 (ad 28 3 (4 * y + k)) x v K := by
  have e1 : (4 * y + k) / 4 = y := by omega
  have e2 : (4 * y + k) % 4 = k := by omega
  refine x_stT h (by decide) (by show 4 * y + k < 40; omega) hx (Or.inr (Or.inr (Or.inr rfl))) (upd_ext ?_ fun j hj => ?_) (fun m' r' hm' hn => ?_) kk
  · show bU X 62 y (nn x) k v 62 ((4 * y + k) / 4) (nn x) ((4 * y + k) % 4) = v
    rw [e1, e2, bU_s]
  · show bU X 62 y (nn x) k v 62 ((4 * y + k) / 4) j ((4 * y + k) % 4) = X 62 ((4 * y + k) / 4) j ((4 * y + k) % 4)
    exact if_neg fun z => hj z.2.2.1
  · rcases (by omega : m' = 0 ∨ m' = 1 ∨ m' = 2 ∨ m' = 3) with rfl | rfl | rfl | rfl
    · exact xTab_U (by decide) (by decide)
    · exact xTab_U (by decide) (by decide)
    · exact xTab_U (by decide) (by decide)
    · funext q
      show bU X 62 y (nn x) k v 62 (r' / 4) q (r' % 4) = X 62 (r' / 4) q (r' % 4)
      exact if_neg fun z => hn ⟨rfl, by omega⟩
/-- how many were noted of a kind in a cell, over the first notes of a walk -/
def xnoted (X : bS) (w : Nat) (c k : Int32) : Nat → Int32
  | 0 => 0
  | j + 1 => xnoted X w c k j + (if X 65 w j 0 = c then (if X 66 w j 0 = k then X 67 w j 0 else 0) else 0)
theorem rX.note (h : rX κ M ad X) {w j : Nat} (hw : w < xN X 3) (hj : j < xN X (4 + w)) : M (ad 24 (4 + w) j) = some (true, .inr (15, [.int (X 64 w j 0), .int (X 65 w j 0), .int (X 66 w j 0), .int (X 67 w j 0)])) := by
  have := h.at (xl24 (X := X) (c := 4 + w) (j := j) (by omega) hj)
  have e : xC κ.2.1 ad X 24 (4 + w) j = xEl ad X (4 + w) j := rfl
  rw [e] at this
  unfold xEl at this
  rw [if_neg (by omega), if_neg (by omega), if_neg (by omega), if_neg (by omega), Nat.add_sub_cancel_left] at this
  exact this
theorem x_nt13 {P : Int32 → mM → Prop} (hI : xI X) {w u N : Nat} {c k : Int32} (hw : w < xN X 3) (hN : xN X (4 + w) = N) : ∀ (n j q : Nat) (M : mM), j + n = N → n < q → rX κ M ad X → xIt κ M ad X u (4 + w) j → (∀ M', rX κ M' ad X → (∀ a, a ≠ u → M' a = M a) → P (xnoted X w c k N) M') → wl_X17_noted_13 G P q b M c k (xnoted X w c k j) u
  | _, _, 0, _, _, hq, _, _, _ => absurd hq (Nat.not_lt_zero _)
  | n, j, q + 1, M, hj, hq, h, hi, kk => by
    have hL : 4 + w < 4 + xN X 3 := by omega
    obtain ⟨hx, lr, hu⟩ := id hi
    unfold wl_X17_noted_13 wb_X17_noted_62 wb_X17_noted_63
    refine ⟨isc_ hu, x_hasNext h hI hL hi (by omega) (fun z => ⟨fun y => absurd y (by decide), fun _ => ⟨isc_ hu, x_next h hI hL hi z fun M' h' hi' hM' => ?_⟩⟩) fun z => ⟨fun _ => ?_, fun y => absurd rfl y⟩⟩
    · obtain ⟨n, rfl⟩ : ∃ n', n = n' + 1 := ⟨n - 1, by omega⟩
      have nt := h'.note hw z
      have go : ∀ v, v = xnoted X w c k (j + 1) → wl_X17_noted_13 G P q b M' c k v u := fun v hv => by
        rw [hv]
        exact x_nt13 hI hw hN n (j + 1) q M' (by omega) (by omega) h' hi' fun M'' h'' hM'' => kk M'' h'' fun a ha => (hM'' a ha).trans (hM' a ha)
      have ex : xnoted X w c k (j + 1) = xnoted X w c k j + (if X 65 w j 0 = c then (if X 66 w j 0 = k then X 67 w j 0 else 0) else 0) := rfl
      refine ⟨isc_ nt, isc_ nt, ?_⟩
      unfold wp_X18_cell wp_X18_kind wp_X18_many
      refine gfi_ nt rfl ⟨fun y => go _ ?_, fun y => ⟨isc_ nt, gfi_ nt rfl ⟨fun v => go _ ?_, fun v => ⟨isc_ nt, gfi_ nt rfl (go _ ?_)⟩⟩⟩⟩
      · rw [ex, if_neg y]
      · rw [ex, if_pos y, if_neg v]
      · rw [ex, if_pos y, if_pos v]
    · have : j = N := by omega
      subst this
      exact kk M h fun _ _ => rfl
theorem x_noted {P : Int32 → mM → Prop} (h : rX κ M ad X) (hI : xI X) {w : Nat} (hw : w < xN X 3) {c k : Int32} (hb : 5 ≤ b) (kk : ∀ M', rX κ M' ad X → (∀ a, M a ≠ none → M' a = M a) → P (xnoted X w c k (xN X (4 + w))) M') : wp_X17_noted G b P M (ad 24 3 w) c k := by
  have hL : 4 + w < 4 + xN X 3 := by omega
  have hl : xL X 24 3 w := xl24 (by omega) hw
  unfold wp_X17_noted
  refine gfa_ (h.at hl) rfl ⟨isc_ (h.list hL), 5, b - 5, by omega, x_iter h hL (by omega) fun u M' hu h' hi' hM' => ⟨_, x_nt13 hI hw rfl (xN X (4 + w)) 0 _ M' (Nat.zero_add _) (Nat.lt_succ_self _) h' hi' fun M'' h'' hM'' => kk M'' h'' fun a ha => ?_⟩⟩
  have hne : a ≠ u := fun z => ha (z ▸ hu)
  exact (hM'' a hne).trans (hM' a hne)
def xTell (X : bS) (w c k : Nat) (n p : Int32) : bS :=
  bU (bU X 45 (nn (X 33 w 0 0)) c k (iMax (X 45 (nn (X 33 w 0 0)) c k) n)) 62 (nn (X 33 w 0 0)) c k (if X 62 (nn (X 33 w 0 0)) c k = -1 then ((n + 1) * 1000 - 1) / p else (if ((n + 1) * 1000 - 1) / p < X 62 (nn (X 33 w 0 0)) c k then ((n + 1) * 1000 - 1) / p else X 62 (nn (X 33 w 0 0)) c k))
def xNo (X : bS) (w c k : Nat) : Int32 := xnoted X w (Int32.ofNat c) (Int32.ofNat k) (xN X (4 + w))
theorem x_tell {P : mM → Prop} (h : rX κ M ad X) (hI : xI X) {w : Nat} (hw : w < xN X 3) (h33 : vp_in (X 33 w 0 0) 10) {c k p : Int32} (hc : vp_in c 36) (hk : vp_in k 4) (hp : ¬ p = 0) (hb : 5 ≤ b) (kk : ∀ M', rX κ M' ad (xTell X w (nn c) (nn k) (xNo X w (nn c) (nn k)) p) → P M') : wp_X1_tell G b P M κ.2.2.1 (ad 24 3 w) c k p := by
  have hl : xL X 24 3 w := xl24 (by omega) hw
  have hk4 := bLn hk
  have hy := bLn h33
  obtain ⟨e1, e2⟩ := row4 (nn (X 33 w 0 0)) hy (nn k) hk4
  rw [← vp_of hk, ← vp_of h33] at e1 e2
  have rw1 : ∀ m, some (ad 28 m (4 * X 33 w 0 0 + k).toNatClampNeg) = some (ad 28 m (4 * nn (X 33 w 0 0) + nn k)) := fun m => by rw [show (4 * X 33 w 0 0 + k).toNatClampNeg = 4 * nn (X 33 w 0 0) + nn k from e1]
  unfold xNo xTell at kk
  rw [← vp_of hc, ← vp_of hk] at kk
  unfold wp_X1_tell wb_X1_tell_96
  refine ⟨isc_ (h.at hl), b, 0, rfl, x_noted h hI hw hb fun M1 h1 _ => ⟨hp, gfi_ (h1.at hl) rfl (gfa_ h1.main rfl (lda_ (h1.at (xl0 (t := 10) (by decide))) e2 (rw1 2) (gfa_ h1.main rfl (lda_ (h1.at (xl0 (t := 10) (by decide))) e2 (rw1 2) (ldi_ (h1.at (xl28 (X := X) (c := 2) (j := 4 * nn (X 33 w 0 0) + nn k) (by decide) (by show _ < 40; omega))) hc ?_)))))⟩⟩
  show ∀ g11 : Int32, g11 = (if xTab X 2 (4 * nn (X 33 w 0 0) + nn k) (nn c) < _ then _ else xTab X 2 (4 * nn (X 33 w 0 0) + nn k) (nn c)) → _
  rw [xTab2 hk4]
  intro g hg
  refine x_st45 h1 hy hk4 hc fun M2 h2 _ => ?_
  have e62 : bU X 45 (nn (X 33 w 0 0)) (nn c) (nn k) g 62 = X 62 := bU_ff (by decide)
  have hl2 : xL (bU X 45 (nn (X 33 w 0 0)) (nn c) (nn k) g) 28 3 (4 * nn (X 33 w 0 0) + nn k) := xl28 (by decide) (by show _ < 40; omega)
  subst hg
  have fin : ∀ v, v = (if X 62 (nn (X 33 w 0 0)) (nn c) (nn k) = -1 then ((xnoted X w c k (xN X (4 + w)) + 1) * 1000 - 1) / p else (if ((xnoted X w c k (xN X (4 + w)) + 1) * 1000 - 1) / p < X 62 (nn (X 33 w 0 0)) (nn c) (nn k) then ((xnoted X w c k (xN X (4 + w)) + 1) * 1000 - 1) / p else X 62 (nn (X 33 w 0 0)) (nn c) (nn k))) → sti M2 0 (ad 28 3 (4 * nn (X 33 w 0 0) + nn k)) c v fun M22 => P M22 := fun v hv => by
    subst hv
    exact x_st62 h2 hy hk4 hc fun M3 h3 _ => kk M3 h3
  refine gfa_ h2.main rfl (lda_ (h2.at (xl0 (t := 11) (by decide))) e2 (rw1 3) (gfa_ h2.main rfl (lda_ (h2.at (xl0 (t := 11) (by decide))) e2 (rw1 3) (ldi_ (h2.at hl2) hc ?_))))
  show (¬ xTab (bU X 45 (nn (X 33 w 0 0)) (nn c) (nn k) _) 3 (4 * nn (X 33 w 0 0) + nn k) (nn c) = -1 → _) ∧ (xTab (bU X 45 (nn (X 33 w 0 0)) (nn c) (nn k) _) 3 (4 * nn (X 33 w 0 0) + nn k) (nn c) = -1 → _)
  rw [xTab3 hk4, e62]
  refine ⟨fun z => gfa_ h2.main rfl (lda_ (h2.at (xl0 (t := 11) (by decide))) e2 (rw1 3) (ldi_ (h2.at hl2) hc ?_)), fun z => fin _ ?_⟩
  · show ∀ g21 : Int32, g21 = (if _ < xTab (bU X 45 (nn (X 33 w 0 0)) (nn c) (nn k) _) 3 (4 * nn (X 33 w 0 0) + nn k) (nn c) then _ else xTab (bU X 45 (nn (X 33 w 0 0)) (nn c) (nn k) _) 3 (4 * nn (X 33 w 0 0) + nn k) (nn c)) → _
    rw [xTab3 hk4, e62]
    intro g hg
    refine fin g ?_
    rw [if_neg z]
    exact hg
  · rw [if_pos z]
end B83
