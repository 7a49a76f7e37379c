/-! ARRAYS OF ARRAYS: multianewarray of two and of three dimensions -/
theorem mMul_lt {i n w j : Nat} (hi : i < n) (hj : j < w) : i * w + j < n * w := by
  have := Nat.mul_le_mul_right w (show i + 1 ≤ n from hi)
  rw [Nat.succ_mul] at this
  omega
def mOut (c : ClassId) (N : Nat) (f : Nat → Nat) : Nat → Cell
  | 0 => { cls := c, slots := Array.replicate N .null, vm := .none }
  | i + 1 => (mOut c N f i).setSlot i (.ref (f i))
theorem mOut_facts (c : ClassId) (N : Nat) (f : Nat → Nat) : ∀ i, (mOut c N f i).cls = c ∧ (mOut c N f i).vm = .none ∧ (mOut c N f i).slots.size = N ∧ (mOut c N f i).monitor = {}
  | 0 => ⟨rfl, rfl, by simp [mOut], rfl⟩
  | i + 1 => by
    obtain ⟨a, b, d, e⟩ := mOut_facts c N f i
    exact ⟨by simp [mOut, Cell.setSlot, a], by simp [mOut, Cell.setSlot, b], by simp [mOut, Cell.setSlot, d], by simp [mOut, Cell.setSlot, e]⟩
theorem mOut_slot (c : ClassId) (N : Nat) (f : Nat → Nat) : ∀ i j, j < N → (mOut c N f i).slots[j]? = some (if j < i then .ref (f j) else .null)
  | 0, j, h => by simp [mOut, h]
  | i + 1, j, h => by
    have ih := mOut_slot c N f i j h
    have hs := (mOut_facts c N f i).2.2.1
    show ((mOut c N f i).setSlot i (.ref (f i))).slots[j]? = _
    simp only [Cell.setSlot, Array.getElem?_setIfInBounds]
    by_cases e : i = j
    · subst e; simp [hs, h]
    · rw [if_neg e, ih]
      by_cases hj : j < i
      · rw [if_pos hj, if_pos (by omega)]
      · rw [if_neg hj, if_neg (by omega)]
theorem outerC_mon (c : ClassId) (N h0 : Nat) : ∀ i, (Jvm.Free.Multi.outerC c N h0 i).monitor = {}
  | 0 => rfl
  | i + 1 => by simp [Jvm.Free.Multi.outerC, Cell.setSlot, outerC_mon c N h0 i]
def mFill (s : State) (c0 c1 c2 : ClassId) (N M K : Nat) (dv : Value) : Nat → State
  | 0 => s.pushCell (mOut c0 N (fun j => s.heap.size + 1 + j * (M + 1)) 0)
  | i + 1 => (Jvm.Free.Multi.fill (mFill s c0 c1 c2 N M K dv i) c1 c2 M K dv M).setCell s.heap.size (mOut c0 N (fun j => s.heap.size + 1 + j * (M + 1)) (i + 1))
theorem mFill_facts (s : State) (c0 c1 c2 : ClassId) (N M K : Nat) (dv : Value) : ∀ i, (mFill s c0 c1 c2 N M K dv i).heap.size = s.heap.size + 1 + i * (M + 1) ∧ (mFill s c0 c1 c2 N M K dv i).heap[s.heap.size]? = some (mOut c0 N (fun j => s.heap.size + 1 + j * (M + 1)) i) ∧
    (mFill s c0 c1 c2 N M K dv i).vm = s.vm ∧ (mFill s c0 c1 c2 N M K dv i).slotsUsed = s.slotsUsed + N + i * (M + M * K)
  | 0 => ⟨by simp [mFill], by simp [mFill], rfl, by simp [mFill, mOut]⟩
  | i + 1 => by
    obtain ⟨a, b, d, u⟩ := mFill_facts s c0 c1 c2 N M K dv i
    obtain ⟨a2, b2, d2, u2⟩ := Jvm.Free.Multi.fill_facts (mFill s c0 c1 c2 N M K dv i) c1 c2 M K dv M
    have hlt : s.heap.size < (mFill s c0 c1 c2 N M K dv i).heap.size := by rw [a]; omega
    have hb' := (Jvm.Free.Multi.fill_old (mFill s c0 c1 c2 N M K dv i) c1 c2 M K dv hlt M).trans b
    refine ⟨?_, State.heap_setCell_self hb', ?_, ?_⟩
    · show ((Jvm.Free.Multi.fill (mFill s c0 c1 c2 N M K dv i) c1 c2 M K dv M).setCell s.heap.size _).heap.size = _
      simp only [State.setCell, Array.size_setIfInBounds, a2, a, Nat.succ_mul]
      omega
    · show (Jvm.Free.Multi.fill (mFill s c0 c1 c2 N M K dv i) c1 c2 M K dv M).vm = _
      rw [d2, d]
    · show (Jvm.Free.Multi.fill (mFill s c0 c1 c2 N M K dv i) c1 c2 M K dv M).slotsUsed = _
      rw [u2, u, Nat.succ_mul]
      omega
theorem mFill_setTop (s : State) (f : JFrame) (c0 c1 c2 : ClassId) (N M K : Nat) (dv : Value) : ∀ i, mFill (s.setTop f) c0 c1 c2 N M K dv i = (mFill s c0 c1 c2 N M K dv i).setTop f
  | 0 => rfl
  | i + 1 => by simp only [mFill, mFill_setTop s f c0 c1 c2 N M K dv i, Jvm.Free.Multi.fill_setTop, State.heap_setTop, State.pushCell_setTop, State.setCell_setTop]
theorem mFill_old (s : State) (c0 c1 c2 : ClassId) (N M K : Nat) (dv : Value) {a : Addr} (ha : a < s.heap.size) : ∀ i, (mFill s c0 c1 c2 N M K dv i).heap[a]? = s.heap[a]?
  | 0 => State.heap_pushCell_of_lt _ _ ha
  | i + 1 => by
    have f1 := (mFill_facts s c0 c1 c2 N M K dv i).1
    show ((Jvm.Free.Multi.fill (mFill s c0 c1 c2 N M K dv i) c1 c2 M K dv M).setCell s.heap.size _).heap[a]? = _
    have ha2 : a < (mFill s c0 c1 c2 N M K dv i).heap.size := Nat.lt_of_lt_of_le ha (by rw [f1]; omega)
    rw [State.heap_setCell_other (Nat.ne_of_gt ha), Jvm.Free.Multi.fill_old _ c1 c2 M K dv ha2 M]
    exact mFill_old s c0 c1 c2 N M K dv ha i
theorem mFill_sub (s : State) (c0 c1 c2 : ClassId) (N M K : Nat) (dv : Value) : ∀ i j, j < i → (mFill s c0 c1 c2 N M K dv i).heap[s.heap.size + 1 + j * (M + 1)]? = some (Jvm.Free.Multi.outerC c1 M (s.heap.size + 1 + j * (M + 1)) M) ∧
    ∀ q, q < M → (mFill s c0 c1 c2 N M K dv i).heap[s.heap.size + 1 + j * (M + 1) + 1 + q]? = some (Jvm.Free.Multi.innerC c2 K dv)
  | 0, _, h => absurd h (Nat.not_lt_zero _)
  | i + 1, j, h => by
    have f1 := (mFill_facts s c0 c1 c2 N M K dv i).1
    have e0 : ∀ x, x ≠ s.heap.size → (mFill s c0 c1 c2 N M K dv (i + 1)).heap[x]? = (Jvm.Free.Multi.fill (mFill s c0 c1 c2 N M K dv i) c1 c2 M K dv M).heap[x]? := fun x hx => by
      show ((Jvm.Free.Multi.fill (mFill s c0 c1 c2 N M K dv i) c1 c2 M K dv M).setCell s.heap.size _).heap[x]? = _
      rw [State.heap_setCell_other (Ne.symm hx)]
    rcases Nat.lt_or_ge j i with hj | hj
    · obtain ⟨h1, h2⟩ := mFill_sub s c0 c1 c2 N M K dv i j hj
      have hm : ∀ q, q < M + 1 → s.heap.size + 1 + j * (M + 1) + q < (mFill s c0 c1 c2 N M K dv i).heap.size := fun q hq => by
        have := mMul_lt hj hq
        rw [f1]; omega
      refine ⟨?_, fun q hq => ?_⟩
      · rw [e0 _ (by omega), Jvm.Free.Multi.fill_old _ c1 c2 M K dv (show s.heap.size + 1 + j * (M + 1) < _ from hm 0 (by omega)) M]
        exact h1
      · have hm9 : s.heap.size + 1 + j * (M + 1) + 1 + q < (mFill s c0 c1 c2 N M K dv i).heap.size := by
          have := hm (1 + q) (by omega)
          omega
        rw [e0 _ (by omega), Jvm.Free.Multi.fill_old _ c1 c2 M K dv hm9 M]
        exact h2 q hq
    · have e : j = i := by omega
      subst e
      refine ⟨?_, fun q hq => ?_⟩
      · rw [e0 _ (by omega), ← f1]
        exact (Jvm.Free.Multi.fill_facts (mFill s c0 c1 c2 N M K dv j) c1 c2 M K dv M).2.1
      · rw [e0 _ (by omega), ← f1]
        exact Jvm.Free.Multi.fill_inner (mFill s c0 c1 c2 N M K dv j) c1 c2 M K dv M q hq
theorem mWp3 {E : CtlPost} {e : Env} {d : Bool} {acts : List Action} {s : State} {c c1 c2 cc : ClassId} {k k1 k2 : Class} {t0 t1 type : FieldType} {n m q : Int32} (hk : s.vm.classes[c]? = some k) (hkind : k.kind = .array c1 t0) (href : t0.isReference = true)
    (hk1 : s.vm.classes[c1]? = some k1) (hkind1 : k1.kind = .array c2 t1) (href1 : t1.isReference = true) (hk2 : s.vm.classes[c2]? = some k2) (hkind2 : k2.kind = .array cc type) (hn : ¬ n < 0) (hm : ¬ m < 0) (hq0 : ¬ q < 0)
    (hl0 : ¬ n.toNatClampNeg > e.platform.arrayLengthLimit) (hh0 : ¬ n.toNatClampNeg * componentBytes t0 > e.platform.maxHeapBytes)
    (hl1 : ¬ m.toNatClampNeg > e.platform.arrayLengthLimit) (hh1 : ¬ m.toNatClampNeg * componentBytes t1 > e.platform.maxHeapBytes)
    (hl2 : ¬ q.toNatClampNeg > e.platform.arrayLengthLimit) (hh2 : ¬ q.toNatClampNeg * componentBytes type > e.platform.maxHeapBytes)
    (hdf : fits type (defaultValue type) = true) (hdd : (defaultValue type).isDefault = true)
    (hc : s.heap.size + 1 + n.toNatClampNeg * (m.toNatClampNeg + 1) ≤ e.platform.maxCells) (hs : s.slotsUsed + n.toNatClampNeg + n.toNatClampNeg * (m.toNatClampNeg + m.toNatClampNeg * q.toNatClampNeg) ≤ e.platform.maxSlots)
    {Q : Addr → Pre} (hq : ∀ d' acts', Q s.heap.size d' acts' (mFill s c c1 c2 n.toNatClampNeg m.toNatClampNeg q.toNatClampNeg (defaultValue type) n.toNatClampNeg)) :
    wp (multianewarray.make c [n, m, q]) Q E e d acts s := by
  have hfind : ([m, q].find? (· < 0)) = none := by simp [hm, hq0]
  rw [multianewarray.make]
  simp only [wp_bind', W.ite, hn, if_false, wp_pure', W.theClass, hk, hkind, Option.some.injEq, exists_eq_left']
  refine Jvm.Free.Multi.wp_newArray hk hkind hl0 hh0 (Jvm.Free.Multi.refFits href _ (Or.inl rfl)) rfl (by omega) (by have := Nat.zero_le (n.toNatClampNeg * (m.toNatClampNeg + m.toNatClampNeg * q.toNatClampNeg)); omega) ?_
  simp only [hfind]
  rw [ite_self, wp_bind', Std.Legacy.Range.forIn_eq_forIn_range']
  have hsz : ([:n.toNatClampNeg] : Std.Legacy.Range).size = n.toNatClampNeg := by simp [Std.Legacy.Range.size]
  rw [hsz]
  show wp (forIn (List.range' 0 n.toNatClampNeg 1) PUnit.unit _) _ E e d acts _
  refine wp_forIn_inv (fun rest s' => ∃ i, i ≤ n.toNatClampNeg ∧ rest = List.range' i (n.toNatClampNeg - i) ∧ s' = mFill s c c1 c2 n.toNatClampNeg m.toNatClampNeg q.toNatClampNeg (defaultValue type) i) _ _ ⟨0, Nat.zero_le _, rfl, rfl⟩ ?_ ?_
  · rintro x rest s' d' acts' Q' ⟨i, hi, hl, rfl⟩ hnext
    have hlt : i < n.toNatClampNeg := by
      rcases Nat.lt_or_ge i n.toNatClampNeg with h | h
      · exact h
      · rw [show n.toNatClampNeg - i = 0 from by omega] at hl; simp at hl
    obtain ⟨rfl, hrest⟩ : x = i ∧ rest = List.range' (i + 1) (n.toNatClampNeg - (i + 1)) := by
      rw [show n.toNatClampNeg - i = (n.toNatClampNeg - (i + 1)) + 1 from by omega, List.range'_succ] at hl
      exact ⟨(List.cons.inj hl).1, (List.cons.inj hl).2⟩
    obtain ⟨f1, f2, f3, f4⟩ := mFill_facts s c c1 c2 n.toNatClampNeg m.toNatClampNeg q.toNatClampNeg (defaultValue type) x
    obtain ⟨o1, o2, o3, -⟩ := mOut_facts c n.toNatClampNeg (fun j => s.heap.size + 1 + j * (m.toNatClampNeg + 1)) x
    have hm1 : x * (m.toNatClampNeg + 1) + (m.toNatClampNeg + 1) ≤ n.toNatClampNeg * (m.toNatClampNeg + 1) := by
      have := Nat.mul_le_mul_right (m.toNatClampNeg + 1) (show x + 1 ≤ n.toNatClampNeg from hlt)
      rw [Nat.succ_mul] at this; exact this
    have hm2 : x * (m.toNatClampNeg + m.toNatClampNeg * q.toNatClampNeg) + (m.toNatClampNeg + m.toNatClampNeg * q.toNatClampNeg) ≤ n.toNatClampNeg * (m.toNatClampNeg + m.toNatClampNeg * q.toNatClampNeg) := by
      have := Nat.mul_le_mul_right (m.toNatClampNeg + m.toNatClampNeg * q.toNatClampNeg) (show x + 1 ≤ n.toNatClampNeg from hlt)
      rw [Nat.succ_mul] at this; exact this
    simp only [wp_bind']
    refine Jvm.Free.Multi.wp_make2 (by rw [f3]; exact hk1) hkind1 href1 (by rw [f3]; exact hk2) hkind2 hm hq0 hl1 hh1 hl2 hh2 hdf hdd (by rw [f1]; omega) (by rw [f4]; omega) fun d9 acts9 => ?_
    have hlt0 : s.heap.size < (mFill s c c1 c2 n.toNatClampNeg m.toNatClampNeg q.toNatClampNeg (defaultValue type) x).heap.size := by rw [f1]; omega
    obtain ⟨-, -, g3, -⟩ := Jvm.Free.Multi.fill_facts (mFill s c c1 c2 n.toNatClampNeg m.toNatClampNeg q.toNatClampNeg (defaultValue type) x) c1 c2 m.toNatClampNeg q.toNatClampNeg (defaultValue type) m.toNatClampNeg
    simp only [wp_bind', W.writeLoc, wp_pure']
    refine ⟨mOut c n.toNatClampNeg (fun j => s.heap.size + 1 + j * (m.toNatClampNeg + 1)) x, by rw [Jvm.Free.Multi.fill_old _ c1 c2 _ _ _ hlt0]; exact f2, by rw [o2]; simp, by rw [o3]; exact hlt, ?_, hnext _ _ _ ⟨x + 1, hlt, hrest, ?_⟩⟩
    · rw [o1, o2]
      simp [State.fitsSlot, State.slotType?, g3, f3, hk, hkind, Jvm.Free.Multi.refFits href _ (Or.inr ⟨_, rfl⟩)]
    · rw [f1]; rfl
  · rintro s' d' acts' ⟨i, hi, hl, rfl⟩
    have hiN : i = n.toNatClampNeg := by
      rcases Nat.lt_or_ge i n.toNatClampNeg with h | h
      · rw [show n.toNatClampNeg - i = (n.toNatClampNeg - (i + 1)) + 1 from by omega, List.range'_succ] at hl; cases hl
      · omega
    subst hiN
    simp only [wp_pure']
    exact hq _ _
section MR6
variable {p : Program} {l : Launch} {e : Env} {R : Room} {s : State} {m : MethodId} {args : Array Value} {below : List Frame} {meth : Method} {c : Code} {T : State} {locs : List Loc} {cells slots : Nat}
theorem mStand3 (X : Stand p l e R s m args below meth c T locs cells slots) (c0 c1 c2 : ClassId) (N M K : Nat) (dv : Value) : ∀ i, Stand p l e R s m args below meth c (mFill T c0 c1 c2 N M K dv i) locs (cells + 1 + i * (M + 1)) (slots + N + i * (M + M * K))
  | 0 => by
    have h := X.pushed (mOut c0 N (fun j => T.heap.size + 1 + j * (M + 1)) 0)
    rw [(mOut_facts c0 N _ 0).2.2.1] at h
    simpa [mFill] using h
  | i + 1 => by
    have Xi := mStand3 X c0 c1 c2 N M K dv i
    obtain ⟨f1, f2, f3, f4⟩ := mFill_facts T c0 c1 c2 N M K dv i
    have hlt0 : T.heap.size < (mFill T c0 c1 c2 N M K dv i).heap.size := by rw [f1]; omega
    have hcell := (Jvm.Free.Multi.fill_old (mFill T c0 c1 c2 N M K dv i) c1 c2 M K dv hlt0 M).trans f2
    have h := (Xi.filled c1 c2 M K dv M).stored hcell i (.ref (T.heap.size + 1 + i * (M + 1)))
    have e1 : cells + 1 + (i + 1) * (M + 1) = cells + 1 + i * (M + 1) + 1 + M := by rw [Nat.succ_mul]; omega
    have e2 : slots + N + (i + 1) * (M + M * K) = slots + N + i * (M + M * K) + M + M * K := by rw [Nat.succ_mul]; omega
    rw [List.append_assoc] at h
    have h9 := h.dropFresh (fun x hx => ?_)
    · rw [e1, e2]
      exact h9
    · rcases List.mem_append.mp hx with hx | hx
      · obtain ⟨j, -, rfl⟩ := List.mem_map.mp hx
        exact Nat.le_trans X.heapGrown (Nat.le_of_lt hlt0)
      · cases List.mem_singleton.mp hx
        exact X.heapGrown
end MR6
section MR7
variable {p : Program} {l : Launch} {e : Env} {R : Room} {s : State} {m : MethodId} {args : Array Value} {below : List Frame} {meth : Method} {c : Code} {H : Heap} {locs : List Loc} {Q : State → Prop}
variable {cc : ByteArray} {nL : Nat} {own : String} {G : mG} {A : Nat → Prop} {M : mM} {pc : Nat} {ls : Array Slot} {rest : List Value} {a : Nat}
/-- a table of N rows of K entries at q -/
def mN2 (M : mM) (q t0 t1 N K : Nat) : mM := fun x => if x = q then some (true, .inl (t0, N, .inr (.inr (.inr (.inr fun j => some (q + 1 + j)))))) else if q < x ∧ x < q + 1 + N then some (true, .inl (t1, K, .inl fun _ => 0)) else M x
def nwm2 (M : mM) (r t0 t1 : Nat) (n k : Int32) (K : Nat → mM → Nat → Prop) : Prop := ¬ n < 0 ∧ ¬ k < 0 ∧ n.toNatClampNeg ≤ 60000000 ∧ k.toNatClampNeg ≤ 60000000 ∧ 1 + n.toNatClampNeg + n.toNatClampNeg * (k.toNatClampNeg + 1) ≤ r ∧ ∀ q : Nat, (∀ x, q ≤ x → M x = none) → K q (mN2 M q t0 t1 n.toNatClampNeg k.toNatClampNeg) (r - (1 + n.toNatClampNeg + n.toNatClampNeg * (k.toNatClampNeg + 1)))
/-- N tables of W rows of K entries at q -/
def mN3 (M : mM) (q t0 t1 t2 N W K : Nat) : mM := fun x => if x = q then some (true, .inl (t0, N, .inr (.inr (.inr (.inr fun j => some (q + 1 + j * (W + 1))))))) else if q < x ∧ x < q + 1 + N * (W + 1) then (if (x - q - 1) % (W + 1) = 0 then some (true, .inl (t1, W, .inr (.inr (.inr (.inr fun j => some (x + 1 + j)))))) else some (true, .inl (t2, K, .inl fun _ => 0))) else M x
def nwm3 (M : mM) (r t0 t1 t2 : Nat) (n w k : Int32) (K : Nat → mM → Nat → Prop) : Prop := ¬ n < 0 ∧ ¬ w < 0 ∧ ¬ k < 0 ∧ n.toNatClampNeg ≤ 60000000 ∧ w.toNatClampNeg ≤ 60000000 ∧ k.toNatClampNeg ≤ 60000000 ∧ 1 + n.toNatClampNeg + n.toNatClampNeg * (w.toNatClampNeg + 1 + w.toNatClampNeg * (k.toNatClampNeg + 1)) ≤ r ∧ ∀ q : Nat, (∀ x, q ≤ x → M x = none) → K q (mN3 M q t0 t1 t2 n.toNatClampNeg w.toNatClampNeg k.toNatClampNeg) (r - (1 + n.toNatClampNeg + n.toNatClampNeg * (w.toNatClampNeg + 1 + w.toNatClampNeg * (k.toNatClampNeg + 1))))
theorem mW.fill (S : mW G A s M H locs) (hA : ∀ q, s.heap.size ≤ q → A q) {M1 : mM} {H1 : Heap} (he : ∀ x w e, H.size ≤ x → M1 x = some (w, e) → mAt G w x e H1) (ho : ∀ x, x < H.size → M1 x = M x) (z : H.size ≤ H1.size) (oq : ∀ q : Nat, q < H.size → H1[q]? = H[q]?) : mW G A s M1 H1 locs := by
  refine ⟨fun x w e h => ?_, fun q e h => ?_, ⟨Nat.le_trans S.2.2.1 z, fun x h1 h2 => (oq x (Nat.lt_of_lt_of_le h1 S.2.2.1)).trans (S.2.2.2.1 x h1 h2), S.2.2.2.2⟩⟩
  · rcases Nat.lt_or_ge x H.size with hx | hx
    · rw [ho x hx] at h
      exact (S.1 x w e h).kept (oq x hx)
    · exact he x w e hx h
  · rcases Nat.lt_or_ge q H.size with hx | hx
    · rw [ho q hx] at h
      exact S.2.1 q e h
    · exact hA _ (Nat.le_trans S.2.2.1 hx)
theorem mInner (c1 : ClassId) (K : Nat) (t : Nat) (ty : FieldType) (hty : defaultValue ty = .int 0) (hc : c1 = G.2.1 t) {x : Nat} {H1 : Heap} (h : H1[x]? = some (Jvm.Free.Multi.innerC c1 K (defaultValue ty))) : mAt G true x (.inl (t, K, .inl fun _ => 0)) H1 := by
  refine mArrW h hc (fun q z => ?_) (fun z => ?_) ?_ (fun j hj => ?_) rfl rfl
  · cases z
  · cases z
  · simp [Jvm.Free.Multi.innerC]
  · simp [Jvm.Free.Multi.innerC, hj, hty, mEl]
theorem mOuter (c1 : ClassId) (N h0 t : Nat) (hc : c1 = G.2.1 t) {x : Nat} {H1 : Heap} (h : H1[x]? = some (Jvm.Free.Multi.outerC c1 N h0 N)) : mAt G true x (.inl (t, N, .inr (.inr (.inr (.inr fun j => some (h0 + 1 + j)))))) H1 := by
  obtain ⟨o1, o2, o3⟩ := Jvm.Free.Multi.outerC_facts c1 N h0 N
  refine mArrW h (o1.trans hc) (fun q z => ?_) (fun z => ?_) o3 (fun j hj => ?_) o2 (outerC_mon c1 N h0 N)
  · rw [o2] at z; cases z
  · rw [o2] at z; cases z
  · rw [Jvm.Free.Multi.outerC_slot c1 N h0 N j hj, if_pos hj]
    rfl
theorem mLt12 {t : Nat} {ty : FieldType} (hty : mTy[t]? = some (.array ty)) : t < 12 := by
  rcases Nat.lt_or_ge t 12 with z | z
  · exact z
  · rcases Nat.lt_or_ge t 14 with z2 | z2
    · rcases (by omega : t = 12 ∨ t = 13) with z3 | z3
      · subst z3
        cases (Option.some.inj (hty.symm.trans (rfl : mTy[12]? = some (.object "java/lang/Integer"))))
      · subst z3
        cases (Option.some.inj (hty.symm.trans (rfl : mTy[13]? = some .int)))
    · rw [List.getElem?_eq_none (by exact z2)] at hty
      cases hty
/-- the class of rows below a class of tables -/
theorem mUp (C : mCx p l s m args meth c cc nL own G A) {t : Nat} {ty : FieldType} (hty : mTy[t]? = some (.array ty)) (hao : FieldType.array ty ∈ mAo) {t1 : Nat} (hty1 : mTy[t1]? = some ty) (h1 : t1 < 12) (hf : ∀ cA, va_RA s cA ty → s.vm.findClass (FieldType.array ty).toString = some cA) : ∃ k, s.vm.classes[G.2.1 t]? = some k ∧ k.kind = .array (G.2.1 t1) (.array ty) ∧ s.vm.findClass ("[" ++ (FieldType.array ty).toString) = some (G.2.1 t) := by
  obtain ⟨comp, cA, k, f1, -, f3, f4, f5⟩ := mAO_spec (C.kt.2.2.2.2.1 _ hao)
  have e2 : comp = G.2.1 t1 := Option.some.inj (f1.symm.trans (hf _ ((C.kt.2.1 t1 _ hty1).2 h1)))
  have h2 : t < 12 := mLt12 hty
  have e3 : s.vm.findClass ("[" ++ (FieldType.array ty).toString) = some (G.2.1 t) := (C.kt.2.1 t _ hty).2 h2
  have e4 : cA = G.2.1 t := Option.some.inj (f5.symm.trans e3)
  subst e4
  subst e2
  exact ⟨k, f3, f4, e3⟩
theorem mm_mnew2 (C : mCx p l s m args meth c cc nL own G A) (S : mW G A s M H locs) {t0 t1 : Nat} {ty : FieldType} (hty : mTy[t0]? = some (.array ty)) (hao : FieldType.array ty ∈ mAo) (hty1 : mTy[t1]? = some ty) (h1 : t1 < 12) (hf : ∀ cA, va_RA s cA ty → s.vm.findClass (FieldType.array ty).toString = some cA) (harr : Cond.arrayClass ty ∈ lw_all) (hdv : defaultValue ty = .int 0) (hdf : fits ty (defaultValue ty) = true) (hcb : componentBytes ty ≤ 8) {index : Nat} {nm : String} (hclk : Cond.classLink own index nm ∈ lw_all) (hnm : nm = "[" ++ (FieldType.array ty).toString) {n w : Int32} (hdg : decode cc pc = .ok (.multianewarray index 2, 4)) {r k b : Nat} {K : Nat → mM → Nat → Prop} (hR1 : R.cells = b) (hR2 : R.slots = b) (hk : k + r ≤ b) (h : nwm2 M r t0 t1 n w K)
    (kk : ∀ (q : Nat) (M1 : mM) (r1 k1 : Nat) (H1 : Heap), K q M1 r1 → mW G A s M1 H1 locs → k1 + r1 ≤ b → W p l e R s m args below meth c H1 locs k1 k1 Q (F0 m (pc + 4) ls (.ref q :: rest))) : W p l e R s m args below meth c H locs k k Q (F0 m pc ls (.int w :: .int n :: rest)) := by
  obtain ⟨hn, hw, hb1, hb2, hr, hK⟩ := h
  subst hnm
  obtain ⟨k0, u1, u2, u3⟩ := mUp C hty hao hty1 h1 hf
  have hsl := Nat.mul_succ n.toNatClampNeg w.toNatClampNeg
  intro T hT X
  subst hT
  obtain ⟨vm₁, cA, comp, hW, hfA, hfC, -, -, X1, step⟩ := X.multianewarray2F C.hx C.hown (C.ts _ hclk) (C.kt.2.2.2.2.1 _ hao) (C.ts _ harr) (g := F0 m pc ls (.int w :: .int n :: rest)) rfl (by rw [C.hb]; exact hdg) rfl hn hw (by omega) (Nat.le_trans (Nat.mul_le_mul hb2 hcb) (Nat.le_of_ble_eq_true rfl)) (by omega) hdf (by rw [hdv]; rfl) (by rw [hR1]; simp only [Nat.succ_eq_add_one] at hsl; omega) (by rw [hR2]; simp only [Nat.succ_eq_add_one] at hsl; omega)
  have e0 : cA = G.2.1 t0 := Option.some.inj (hfA.symm.trans u3)
  have e1 : comp = G.2.1 t1 := Option.some.inj (hfC.symm.trans (hf _ ((C.kt.2.1 t1 _ hty1).2 h1)))
  obtain ⟨f1, f2, f3, f4⟩ := Jvm.Free.Multi.fill_facts (T.setVm vm₁) cA comp n.toNatClampNeg w.toNatClampNeg (defaultValue ty) n.toNatClampNeg
  have hold : ∀ q : Nat, q < T.heap.size → (Jvm.Free.Multi.fill (T.setVm vm₁) cA comp n.toNatClampNeg w.toNatClampNeg (defaultValue ty) n.toNatClampNeg).heap[q]? = T.heap[q]? := fun q hq => Jvm.Free.Multi.fill_old (T.setVm vm₁) cA comp n.toNatClampNeg w.toNatClampNeg (defaultValue ty) hq n.toNatClampNeg
  have S1 : mW G A s (mN2 M T.heap.size t0 t1 n.toNatClampNeg w.toNatClampNeg) (Jvm.Free.Multi.fill (T.setVm vm₁) cA comp n.toNatClampNeg w.toNatClampNeg (defaultValue ty) n.toNatClampNeg).heap locs := by
    refine S.fill C.hA (fun x w' e' hx hM => ?_) (fun x hx => ?_) ?_ hold
    · unfold mN2 at hM
      by_cases hx0 : x = T.heap.size
      · rw [if_pos hx0] at hM
        cases hM
        subst hx0
        exact mOuter cA _ _ _ e0 f2
      · rw [if_neg hx0] at hM
        by_cases hx1 : T.heap.size < x ∧ x < T.heap.size + 1 + n.toNatClampNeg
        · rw [if_pos hx1] at hM
          cases hM
          have := Jvm.Free.Multi.fill_inner (T.setVm vm₁) cA comp n.toNatClampNeg w.toNatClampNeg (defaultValue ty) n.toNatClampNeg (x - T.heap.size - 1) (by omega)
          have ex : (T.setVm vm₁).heap.size + 1 + (x - T.heap.size - 1) = x := by show T.heap.size + 1 + (x - T.heap.size - 1) = x; omega
          rw [ex] at this
          exact mInner comp _ _ ty hdv e1 this
        · rw [if_neg hx1] at hM
          exact absurd hM (by rw [S.1.fresh hx]; exact fun z => by cases z)
    · unfold mN2
      rw [if_neg (Nat.ne_of_lt hx), if_neg (fun z => Nat.lt_asymm hx z.1)]
    · rw [f1]
      show T.heap.size ≤ T.heap.size + 1 + n.toNatClampNeg
      omega
  obtain ⟨t, a1, b1⟩ := kk T.heap.size _ _ (k + (1 + n.toNatClampNeg + n.toNatClampNeg * (w.toNatClampNeg + 1))) _ (hK T.heap.size fun x hx => S.1.fresh hx) S1 (by omega) _ rfl (stand_widen X1 (by simp only [Nat.succ_eq_add_one] at hsl; omega) (by simp only [Nat.succ_eq_add_one] at hsl; omega))
  exact ⟨t, step t a1, b1⟩
theorem mm_mnew3 (C : mCx p l s m args meth c cc nL own G A) (S : mW G A s M H locs) {t0 t1 t2 : Nat} {ty : FieldType} (hty0 : mTy[t0]? = some (.array (.array ty))) (hao0 : FieldType.array (.array ty) ∈ mAo) (hty1 : mTy[t1]? = some (.array ty)) (hao1 : FieldType.array ty ∈ mAo) (hty2 : mTy[t2]? = some ty) (h2 : t2 < 12) (hf : ∀ cA, va_RA s cA ty → s.vm.findClass (FieldType.array ty).toString = some cA) (hf0 : "[" ++ (FieldType.array ty).toString = (FieldType.array (.array ty)).toString) (hdv : defaultValue ty = .int 0) (hdf : fits ty (defaultValue ty) = true) (hcb : componentBytes ty ≤ 8) {index : Nat} {nm : String} (hclk : Cond.classLink own index nm ∈ lw_all) (hnm : nm = "[" ++ (FieldType.array (.array ty)).toString) {n w v : Int32} (hdg : decode cc pc = .ok (.multianewarray index 3, 4)) {r k b : Nat} {K : Nat → mM → Nat → Prop} (hR1 : R.cells = b) (hR2 : R.slots = b) (hk : k + r ≤ b) (h : nwm3 M r t0 t1 t2 n w v K)
    (kk : ∀ (q : Nat) (M1 : mM) (r1 k1 : Nat) (H1 : Heap), K q M1 r1 → mW G A s M1 H1 locs → k1 + r1 ≤ b → W p l e R s m args below meth c H1 locs k1 k1 Q (F0 m (pc + 4) ls (.ref q :: rest))) : W p l e R s m args below meth c H locs k k Q (F0 m pc ls (.int v :: .int w :: .int n :: rest)) := by
  obtain ⟨hn, hw, hv, hb1, hb2, hb3, hr, hK⟩ := h
  subst hnm
  have h1 : t1 < 12 := mLt12 hty1
  obtain ⟨k1, u1, u2, u3⟩ := mUp C hty1 hao1 hty2 h2 hf
  obtain ⟨k0, v1, v2, v3⟩ := mUp C hty0 hao0 hty1 h1 (fun cA hA => by rw [← hf0]; exact hA)
  obtain ⟨-, k2, w1, cc2, w2⟩ := (C.kt.2.1 t2 ty hty2).1 0 (fun _ => .null)
  have hsl := Nat.mul_succ w.toNatClampNeg v.toNatClampNeg
  simp only [Nat.succ_eq_add_one] at hsl
  have hle : n.toNatClampNeg * (w.toNatClampNeg + w.toNatClampNeg * v.toNatClampNeg) ≤ n.toNatClampNeg * (w.toNatClampNeg + 1 + w.toNatClampNeg * (v.toNatClampNeg + 1)) := Nat.mul_le_mul_left _ (by omega)
  have hle2 : n.toNatClampNeg * (w.toNatClampNeg + 1) ≤ n.toNatClampNeg * (w.toNatClampNeg + 1 + w.toNatClampNeg * (v.toNatClampNeg + 1)) := Nat.mul_le_mul_left _ (by omega)
  intro T hT X
  subst hT
  have hpl : e.platform.magicAccessors = ({} : Platform).magicAccessors := by rw [X.admits.platform]
  obtain ⟨c0, hfc0, hcl⟩ := Cond.classLink_spec C.hown (C.ts _ hclk) e.platform hpl
  cases v3.symm.trans hfc0
  obtain ⟨hg₁, hwarm₁, hready₁⟩ := State.classEntry (e := e) X.warmed hcl
  generalize T.vm.noted m.cls index (.cls (G.2.1 t0)) = vm₁ at hg₁ hwarm₁ hready₁
  have hal : s.vm.Alike vm₁ := hwarm₁.alike
  obtain ⟨k0', v1', heA⟩ := hal.2.2 _ _ v1
  obtain ⟨k1', u1', heB⟩ := hal.2.2 _ _ u1
  obtain ⟨k2', w1', heC⟩ := hal.2.2 _ _ w1
  have X₁ := X.noted hwarm₁
  obtain ⟨hr1, hr2⟩ := X.roomAbove (a := 1 + n.toNatClampNeg * (w.toNatClampNeg + 1)) (b := n.toNatClampNeg + n.toNatClampNeg * (w.toNatClampNeg + w.toNatClampNeg * v.toNatClampNeg)) (by rw [hR1]; omega) (by rw [hR2]; omega)
  have hl1 : ∀ {x : Nat}, x ≤ 60000000 → ¬ x > e.platform.arrayLengthLimit := fun {x} hx => by rw [Launch.admits_arrayLengthLimit X.admits]; omega
  have hh1 : ∀ {x : Nat} {ty' : FieldType}, x ≤ 60000000 → componentBytes ty' ≤ 8 → ¬ x * componentBytes ty' > e.platform.maxHeapBytes := fun {x ty'} hx hc => by
    rw [Launch.admits_maxHeapBytes X.admits]
    have := Nat.mul_le_mul hx hc
    omega
  obtain ⟨f1, f2, f3, f4⟩ := mFill_facts (T.setVm vm₁) (G.2.1 t0) (G.2.1 t1) (G.2.1 t2) n.toNatClampNeg w.toNatClampNeg v.toNatClampNeg (defaultValue ty) n.toNatClampNeg
  have hold : ∀ q : Nat, q < T.heap.size → (mFill (T.setVm vm₁) (G.2.1 t0) (G.2.1 t1) (G.2.1 t2) n.toNatClampNeg w.toNatClampNeg v.toNatClampNeg (defaultValue ty) n.toNatClampNeg).heap[q]? = T.heap[q]? := fun q hq => mFill_old (T.setVm vm₁) _ _ _ _ _ _ _ hq n.toNatClampNeg
  have X1 := mStand3 X₁ (G.2.1 t0) (G.2.1 t1) (G.2.1 t2) n.toNatClampNeg w.toNatClampNeg v.toNatClampNeg (defaultValue ty) n.toNatClampNeg
  have S1 : mW G A s (mN3 M T.heap.size t0 t1 t2 n.toNatClampNeg w.toNatClampNeg v.toNatClampNeg) (mFill (T.setVm vm₁) (G.2.1 t0) (G.2.1 t1) (G.2.1 t2) n.toNatClampNeg w.toNatClampNeg v.toNatClampNeg (defaultValue ty) n.toNatClampNeg).heap locs := by
    refine S.fill C.hA (fun x w' e' hx hM => ?_) (fun x hx => ?_) ?_ hold
    · unfold mN3 at hM
      by_cases hx0 : x = T.heap.size
      · rw [if_pos hx0] at hM
        cases hM
        subst hx0
        obtain ⟨o1, o2, o3, o4⟩ := mOut_facts (G.2.1 t0) n.toNatClampNeg (fun j => (T.setVm vm₁).heap.size + 1 + j * (w.toNatClampNeg + 1)) n.toNatClampNeg
        refine mArrW f2 o1 (fun q z => ?_) (fun z => ?_) o3 (fun j hj => ?_) o2 o4
        · rw [o2] at z; cases z
        · rw [o2] at z; cases z
        · rw [mOut_slot _ _ _ _ j hj, if_pos hj]
          rfl
      · rw [if_neg hx0] at hM
        by_cases hx1 : T.heap.size < x ∧ x < T.heap.size + 1 + n.toNatClampNeg * (w.toNatClampNeg + 1)
        · rw [if_pos hx1] at hM
          have hdm := Nat.div_add_mod (x - T.heap.size - 1) (w.toNatClampNeg + 1)
          have hml := Nat.mod_lt (x - T.heap.size - 1) (Nat.succ_pos w.toNatClampNeg)
          simp only [Nat.succ_eq_add_one] at hml
          generalize hi : (x - T.heap.size - 1) / (w.toNatClampNeg + 1) = i at hdm
          generalize hj : (x - T.heap.size - 1) % (w.toNatClampNeg + 1) = j at hdm hml hM
          rw [Nat.mul_comm] at hdm
          have hin : i < n.toNatClampNeg := by
            refine Nat.not_le.mp fun hle9 => ?_
            have := Nat.mul_le_mul_right (w.toNatClampNeg + 1) hle9
            omega
          obtain ⟨g1, g2⟩ := mFill_sub (T.setVm vm₁) (G.2.1 t0) (G.2.1 t1) (G.2.1 t2) n.toNatClampNeg w.toNatClampNeg v.toNatClampNeg (defaultValue ty) n.toNatClampNeg i hin
          by_cases hj0 : j = 0
          · rw [if_pos hj0] at hM
            cases hM
            have ex : (T.setVm vm₁).heap.size + 1 + i * (w.toNatClampNeg + 1) = x := by show T.heap.size + 1 + i * (w.toNatClampNeg + 1) = x; omega
            rw [ex] at g1
            exact mOuter _ _ _ _ rfl g1
          · rw [if_neg hj0] at hM
            cases hM
            have ex : (T.setVm vm₁).heap.size + 1 + i * (w.toNatClampNeg + 1) + 1 + (j - 1) = x := by show T.heap.size + 1 + i * (w.toNatClampNeg + 1) + 1 + (j - 1) = x; omega
            have g3 := g2 (j - 1) (by omega)
            rw [ex] at g3
            exact mInner _ _ _ ty hdv rfl g3
        · rw [if_neg hx1] at hM
          exact absurd hM (by rw [S.1.fresh hx]; exact fun z => by cases z)
    · unfold mN3
      rw [if_neg (Nat.ne_of_lt hx), if_neg (fun z => Nat.lt_asymm hx z.1)]
    · rw [f1]
      show T.heap.size ≤ T.heap.size + 1 + n.toNatClampNeg * (w.toNatClampNeg + 1)
      omega
  obtain ⟨t, a1, b1⟩ := kk T.heap.size _ _ (k + (1 + n.toNatClampNeg + n.toNatClampNeg * (w.toNatClampNeg + 1 + w.toNatClampNeg * (v.toNatClampNeg + 1)))) _ (hK T.heap.size fun x hx => S.1.fresh hx) S1 (by omega) _ rfl (stand_widen X1 (by omega) (by omega))
  refine ⟨t, ?_, b1⟩
  have hdg' : decode c.code pc = .ok (.multianewarray index 3, 4) := by rw [C.hb]; exact hdg
  have hg₂ : (resolveClass (F0 m pc ls (.int v :: .int w :: .int n :: rest)).method.cls index).Gives e.toSetting (T.setTop (F0 m pc ls (.int v :: .int w :: .int n :: rest))).vm (Except.ok (G.2.1 t0)) vm₁ := hg₁
  jvm_step X.here [C.hx, hdg']
  simp only [multianewarray.sem, wp_bind', W.resolveClassAt_links (State.method?_setTop _ X.here.top) hg₂]
  rw [W.popN, if_neg (by decide)]
  refine ⟨F0 m pc ls (.int v :: .int w :: .int n :: rest), State.topJava?_setTop' (s := T.setVm vm₁) _ X.here.top, [.int n, .int w, .int v], rest, rfl, rfl, ?_⟩
  simp only [List.mapM_cons, List.mapM_nil, wp_bind', wp_pure']
  refine mWp3 (k := k0') (k1 := k1') (k2 := k2') (c1 := G.2.1 t1) (c2 := G.2.1 t2) (cc := cc2) (t0 := .array (.array ty)) (t1 := .array ty) (type := ty) v1' (by rw [heA]; exact v2) rfl u1' (by rw [heB]; exact u2) rfl w1' (by rw [heC]; exact w2) hn hw hv (hl1 hb1) (hh1 hb1 (by show 4 ≤ 8; omega)) (hl1 hb2) (hh1 hb2 (by show 4 ≤ 8; omega)) (hl1 hb3) (hh1 hb3 hcb) hdf (by rw [hdv]; rfl) (by show T.heap.size + 1 + _ ≤ _; omega) (by show T.slotsUsed + _ + _ ≤ _; omega) (fun d' acts' => ?_)
  have eS : ((T.setTop (F0 m pc ls (.int v :: .int w :: .int n :: rest))).setVm vm₁).setTop { F0 m pc ls (.int v :: .int w :: .int n :: rest) with stack := rest } = (T.setVm vm₁).setTop { F0 m pc ls (.int v :: .int w :: .int n :: rest) with stack := rest } := by
    show ((T.setVm vm₁).setTop _).setTop _ = _
    rw [State.setTop_setTop]
  rw [eS, mFill_setTop]
  simp only [wp_bind', W.mark, W.pushRef, State.topJava?_setTop' _ X1.here.top, Option.some.injEq, exists_eq_left', State.setTop_setTop, State.heap_setTop]
  intro acts
  simp [jvm, X1.here.top]
  exact a1
end MR7
