/-! COPIES: System.arraycopy; the class objects that Arrays.copyOf asks for -/
theorem mSP (at_ : Nat) : ∀ (vs : List (Value × Nat)) (c1 c2 : Cell), c1.slots = c2.slots → (c1.storePairs at_ vs).slots = (c2.storePairs at_ vs).slots ∧ (c1.storePairs at_ vs).cls = c1.cls ∧ (c1.storePairs at_ vs).vm = c1.vm ∧ (c1.storePairs at_ vs).monitor = c1.monitor
  | [], c1, c2, h => ⟨h, rfl, rfl, rfl⟩
  | q :: r, c1, c2, h => by
    obtain ⟨a, b, d, e⟩ := mSP at_ r (c1.setSlot (at_ + q.2) q.1) (c2.setSlot (at_ + q.2) q.1) (by simp only [Cell.setSlot, h])
    exact ⟨a, b.trans rfl, d.trans rfl, e.trans rfl⟩
theorem mArrSlots {cell : Cell} {n : Nat} {g : Nat → Value} (q5 : cell.slots.size = n) (q6 : ∀ j, j < n → cell.slots[j]? = some (g j)) (c0 : ClassId) : cell.slots = (arrV c0 n g).slots := by
  refine Array.ext_getElem? fun j => ?_
  rcases Nat.lt_or_ge j n with h | h
  · rw [q6 j h, arrV_read _ _ h]
  · rw [Array.getElem?_eq_none (by omega), Array.getElem?_eq_none (by rw [arrV_size]; omega)]
theorem mNat {z : Int32} (hz : ¬ z < 0) : z.toInt = (z.toNatClampNeg : Int) := by
  have hz0 : (0 : Int) ≤ z.toInt := by
    have := Int32.not_lt.mp hz
    simpa using Int32.le_iff_toInt_le.mp this
  show z.toInt = ((z.toInt.toNat : Nat) : Int)
  omega
section MR8
variable {p : Program} {l : Launch} {e : Env} {R : Room} {s : State} {m : MethodId} {args : Array Value} {below : List Frame} {meth : Method} {c : Code} {H : Heap} {locs : List Loc} {cells slots : Nat} {Q : State → Prop}
variable {cc : ByteArray} {nL : Nat} {own : String} {G : mG} {A : Nat → Prop} {M : mM} {pc : Nat} {ls : Array Slot} {rest : List Value} {a : Nat}
theorem mm_acopy (C : mCx p l s m args meth c cc nL own G A) (S : mW G A s M H locs) (hml : c.maxLocals = ls.size) {index : Nat} (hlink : Cond.methodLink own index arraycopyName ∈ lw_all) {w0 : Bool} {a0 t0 t1 n0 n1 : Nat} {x0 x1 x2 : mX5} {ty0 ty1 : FieldType} (hty0 : mTy[t0]? = some ty0) (hty1 : mTy[t1]? = some ty1) (hty : ((refKind ty0 != refKind ty1) || (!refKind ty0 && ty0 != ty1)) = false) (hM0 : M a0 = some (w0, .inl (t0, n0, x0))) (hM1 : M a = some (true, .inl (t1, n1, x1)))
    {sp dp n : Int32} (h1 : ¬ sp < 0) (h2 : ¬ dp < 0) (h3 : ¬ n < 0) (h4 : sp.toNatClampNeg + n.toNatClampNeg ≤ n0) (h5 : dp.toNatClampNeg + n.toNatClampNeg ≤ n1) (hx : ∀ j, mEl x2 j = va_cpy (mEl x0) (mEl x1) sp.toNatClampNeg dp.toNatClampNeg n.toNatClampNeg j)
    (hvals : ∀ (T : State) (vm' : Vm) (k1 : Class) (comp : ClassId), T.heap = H → s.vm.Alike vm' → s.vm.classes[G.2.1 t1]? = some k1 → k1.kind = .array comp ty1 → ∀ i, i < n.toNatClampNeg → fits ty1 (mEl x0 (sp.toNatClampNeg + i)) = true ∧ (T.setVm vm').takes comp (mEl x0 (sp.toNatClampNeg + i)))
    (hframes : 1 ≤ R.frames) (hlocals : (rest.map fun v => v.category).sum + (nativeFrameWords "java/lang/System" "arraycopy" 5 + 11) ≤ R.locals) (hdg : decode cc pc = .ok (.invokestatic index, 3))
    (kk : ∀ (H1 : Heap) (locs1 : List Loc), mW G A s (mset M a (.inl (t1, n1, x2))) H1 locs1 → W p l e R s m args below meth c H1 locs1 cells slots Q (F0 m (pc + 3) ls rest)) : W p l e R s m args below meth c H locs cells slots Q (F0 m pc ls (.int n :: .int dp :: .ref a :: .int sp :: .ref a0 :: rest)) := by
  intro T hT X
  obtain ⟨cs, g1, g2, g3, g4, g5, g6, -⟩ := S.arr hM0
  obtain ⟨cd, q1, q2, q3, q4, q5, q6, q8, q9⟩ := S.arrW hM1
  obtain ⟨-, k0, hk0, cm0, hkk0⟩ := mArr (C.kt.2.1 t0 _ hty0).1 g2 g3
  obtain ⟨-, k1, hk1, cm1, hkk1⟩ := mArr (C.kt.2.1 t1 _ hty1).1 q2 q3
  have hgd : ∀ i, i < n.toNatClampNeg → cs.slots.getD (sp.toNatClampNeg + i) .null = mEl x0 (sp.toNatClampNeg + i) := fun i hi => by
    rw [Array.getD_eq_getD_getElem?, g6 _ (by omega)]
    rfl
  obtain ⟨vm', X', step⟩ := X.arraycopy C.hx C.hown (C.ts _ hlink) (C.ts _ q718) (C.ts _ q717) (C.ts _ q70) (src := a0) (dst := a) (cs := cs) (cd := cd) (srcPos := sp) (destPos := dp) (n := n) (by rw [hT]; exact g1) (by rw [hT]; exact q1)
    g3 q3 g4 q4 hk0 hk1 hkk0 hkk1 hty h1 h2 h3 (by rw [mNat h1, mNat h3]; have := g5.1; omega) (by rw [mNat h2, mNat h3, q5]; omega)
    (fun vm₁ hal i hi => by rw [hgd i hi]; exact hvals T vm₁ k1 cm1 hT hal (by rw [← q2]; exact hk1) hkk1 i hi)
    (g := F0 m pc ls (.int n :: .int dp :: .ref a :: .int sp :: .ref a0 :: rest)) rfl (by rw [hml]) (rest := rest) rfl (by rw [C.hb]; exact hdg) hframes (by show 2 * 0 + _ + _ ≤ _; omega)
  have e0 := mSP dp.toNatClampNeg (cs.stretch sp.toNatClampNeg n.toNatClampNeg).zipIdx cd (arrV cd.cls n1 (mEl x1)) (mArrSlots q5 q6 cd.cls)
  have e1 : ((arrV cd.cls n1 (mEl x1)).storePairs dp.toNatClampNeg (cs.stretch sp.toNatClampNeg n.toNatClampNeg).zipIdx) = arrV cd.cls n1 (fun j => va_cpy (mEl x0) (mEl x1) sp.toNatClampNeg dp.toNatClampNeg n.toNatClampNeg j) := va_copiedX (fun z => z) cs cd.cls (mEl x0) (mEl x1) g6 h4
  have hl : a < H.size := (Array.getElem?_eq_some_iff.mp q1).1
  have hm : mAt G true a (.inl (t1, n1, x2)) ((T.setVm vm').setCell a (copied cs cd sp dp n)).heap := by
    refine mArrW (cell := copied cs cd sp dp n) (State.heap_setCell_self (c := cd) (by rw [← hT] at q1; exact q1)) (e0.2.1.trans q2) (fun q z => q3 q (e0.2.2.1.symm.trans z)) (fun z => q4 (e0.2.2.1.symm.trans z)) ?_ (fun j hj => ?_) (e0.2.2.1.trans q8) (e0.2.2.2.trans q9)
    · show (cd.storePairs _ _).slots.size = n1
      rw [e0.1, e1, arrV_size]
    · show (cd.storePairs _ _).slots[j]? = _
      rw [e0.1, e1, arrV_read _ _ hj, hx j]
  obtain ⟨S1, S2, S3, S4, S5⟩ := S
  have oq : ∀ q : Nat, q ≠ a → ((T.setVm vm').setCell a (copied cs cd sp dp n)).heap[q]? = H[q]? := fun q hq => by
    rw [State.heap_setCell_other (Ne.symm hq), ← hT]
    rfl
  have hA := S2 a _ hM1
  obtain ⟨t, a1, b1⟩ := kk _ _ ⟨S1.set hm (fun q h _ => oq q h), fun q e h => (by
      by_cases hq : q = a
      · subst hq; exact hA
      · rw [mset_n hq] at h; exact S2 q e h), by
      show s.heap.size ≤ _
      simp only [State.setCell, Array.size_setIfInBounds]
      show s.heap.size ≤ T.heap.size
      rw [hT]; exact S3, fun q g1 g2 => by
      rw [oq q (fun e => g2 (by rw [e]; exact hA))]
      exact S4 q g1 g2, fun q hq => by
      rcases List.mem_append.mp hq with h | h
      · exact S5 q h
      · obtain ⟨z, -, hz⟩ := List.mem_map.mp h
        rw [← hz]
        exact hA⟩ _ rfl X'
  exact ⟨t, step t a1, b1⟩
/-- bytes copied -/
def cpb (M : mM) (a0 : Nat) (sp : Int32) (a : Nat) (dp n : Int32) (K : mM → Prop) : Prop := ∃ (w0 : Bool) (n0 n1 : Nat) (f g : Nat → Int32), M a0 = some (w0, .inl (3, n0, .inl f)) ∧ M a = some (true, .inl (3, n1, .inl g)) ∧ ¬ sp < 0 ∧ ¬ dp < 0 ∧ ¬ n < 0 ∧ sp.toNatClampNeg + n.toNatClampNeg ≤ n0 ∧ dp.toNatClampNeg + n.toNatClampNeg ≤ n1 ∧ (∀ i, i < n.toNatClampNeg → fits .byte (.int (f (sp.toNatClampNeg + i))) = true) ∧ K (mset M a (.inl (3, n1, .inl (va_cpy f g sp.toNatClampNeg dp.toNatClampNeg n.toNatClampNeg))))
/-- references copied, into an Object[] -/
def cpq (M : mM) (a0 : Nat) (sp : Int32) (a : Nat) (dp n : Int32) (K : mM → Prop) : Prop := ∃ (w0 : Bool) (n0 n1 : Nat) (f g : Nat → Option Nat), M a0 = some (w0, .inl (5, n0, .inr (.inr (.inr (.inr f))))) ∧ M a = some (true, .inl (5, n1, .inr (.inr (.inr (.inr g))))) ∧ ¬ sp < 0 ∧ ¬ dp < 0 ∧ ¬ n < 0 ∧ sp.toNatClampNeg + n.toNatClampNeg ≤ n0 ∧ dp.toNatClampNeg + n.toNatClampNeg ≤ n1 ∧ (∀ i, i < n.toNatClampNeg → ∀ y : Nat, f (sp.toNatClampNeg + i) = some y → iso M y) ∧ K (mset M a (.inl (5, n1, .inr (.inr (.inr (.inr (va_cpy f g sp.toNatClampNeg dp.toNatClampNeg n.toNatClampNeg)))))))
theorem mm_cpb (C : mCx p l s m args meth c cc nL own G A) (S : mW G A s M H locs) (hml : c.maxLocals = ls.size) {index : Nat} (hlink : Cond.methodLink own index arraycopyName ∈ lw_all) {a0 : Nat} {sp dp n : Int32} {K : mM → Prop} (h : cpb M a0 sp a dp n K)
    (hframes : 1 ≤ R.frames) (hlocals : (rest.map fun v => v.category).sum + (nativeFrameWords "java/lang/System" "arraycopy" 5 + 11) ≤ R.locals) (hdg : decode cc pc = .ok (.invokestatic index, 3))
    (kk : ∀ (M1 : mM) (H1 : Heap) (locs1 : List Loc), K M1 → mW G A s M1 H1 locs1 → W p l e R s m args below meth c H1 locs1 cells slots Q (F0 m (pc + 3) ls rest)) : W p l e R s m args below meth c H locs cells slots Q (F0 m pc ls (.int n :: .int dp :: .ref a :: .int sp :: .ref a0 :: rest)) := by
  obtain ⟨w0, n0, n1, f, g, hM0, hM1, h1, h2, h3, h4, h5, hf, hK⟩ := h
  refine mm_acopy C S hml hlink (ty0 := .byte) (ty1 := .byte) rfl rfl (by decide) hM0 hM1 h1 h2 h3 h4 h5 (x2 := .inl (va_cpy f g sp.toNatClampNeg dp.toNatClampNeg n.toNatClampNeg)) (fun j => ?_) (fun T vm' k1 comp hT hal hk hkk i hi => ⟨hf i hi, trivial⟩) hframes hlocals hdg fun H1 locs1 S1 => kk _ H1 locs1 hK S1
  simp only [mEl, va_cpy]
  split <;> rfl
theorem mm_cpq (C : mCx p l s m args meth c cc nL own G A) (S : mW G A s M H locs) (hml : c.maxLocals = ls.size) {index : Nat} (hlink : Cond.methodLink own index arraycopyName ∈ lw_all) {a0 : Nat} {sp dp n : Int32} {K : mM → Prop} (h : cpq M a0 sp a dp n K)
    (hframes : 1 ≤ R.frames) (hlocals : (rest.map fun v => v.category).sum + (nativeFrameWords "java/lang/System" "arraycopy" 5 + 11) ≤ R.locals) (hdg : decode cc pc = .ok (.invokestatic index, 3))
    (kk : ∀ (M1 : mM) (H1 : Heap) (locs1 : List Loc), K M1 → mW G A s M1 H1 locs1 → W p l e R s m args below meth c H1 locs1 cells slots Q (F0 m (pc + 3) ls rest)) : W p l e R s m args below meth c H locs cells slots Q (F0 m pc ls (.int n :: .int dp :: .ref a :: .int sp :: .ref a0 :: rest)) := by
  obtain ⟨w0, n0, n1, f, g, hM0, hM1, h1, h2, h3, h4, h5, hf, hK⟩ := h
  refine mm_acopy C S hml hlink (ty0 := .object "java/lang/Object") (ty1 := .object "java/lang/Object") rfl rfl (by decide) hM0 hM1 h1 h2 h3 h4 h5 (x2 := .inr (.inr (.inr (.inr (va_cpy f g sp.toNatClampNeg dp.toNatClampNeg n.toNatClampNeg))))) (fun j => ?_) (fun T vm' k1 comp hT hal hk hkk i hi => ?_) hframes hlocals hdg fun H1 locs1 S1 => kk _ H1 locs1 hK S1
  · simp only [mEl, va_cpy]
    split <;> rfl
  · show fits _ (va_rf (f (sp.toNatClampNeg + i))) = true ∧ (T.setVm vm').takes comp (va_rf (f (sp.toNatClampNeg + i)))
    cases hy : f (sp.toNatClampNeg + i) with
    | none => exact ⟨rfl, trivial⟩
    | some y =>
      obtain ⟨w, ci, fs, hMy⟩ := hf i hi y hy
      obtain ⟨r, cellV, r0, r1, r2, r3, -⟩ := S.1 y w _ hMy
      obtain ⟨kA, comp2, v1, v2, v3, -⟩ := (C.kt.2.1 5 (.object "java/lang/Object") rfl).2 (by decide)
      cases hk.symm.trans v1
      cases hkk.symm.trans v2
      obtain ⟨hfc, kC, hkC, -⟩ := (C.kt.1 ci r r0).2
      obtain ⟨kE, hkE, -⟩ := Vm.findClass_spec v3
      obtain ⟨kC', hkC', -⟩ := hal.2.2 _ _ hkC
      obtain ⟨kE', hkE', -⟩ := hal.2.2 _ _ hkE
      refine ⟨rfl, cellV, (show T.heap[y]? = some cellV by rw [hT]; exact r1), (fun q h => by have r4 := r3.1; rw [h] at r4; cases r4), ⟨kC', by rw [r2]; exact hkC'⟩, ?_, ?_⟩
      · exact ⟨kE', hkE'⟩
      · show vm'.assignable _ _ = true
        rw [hal.assignable, r2]
        exact mm_anyObj C r0 (mObjs r (List.mem_of_getElem? r0)) v3
end MR8
section MR9
variable {p : Program} {l : Launch} {e : Env} {R : Room} {s : State} {m : MethodId} {args : Array Value} {below : List Frame} {meth : Method} {c : Code} {H : Heap} {locs : List Loc} {cells slots : Nat} {Q : State → Prop}
variable {cc : ByteArray} {nL : Nat} {own : String} {G : mG} {A : Nat → Prop} {M : mM} {pc : Nat} {ls : Array Slot} {rest : List Value} {a : Nat}
theorem mm_getC (C : mCx p l s m args meth c cc nL own G A) (S : mW G A s M H locs) (hml : c.maxLocals = ls.size) {index : Nat} (hlink : Cond.methodLink own index ⟨"java/lang/Object", "getClass", "()Ljava/lang/Class;"⟩ ∈ lw_all) (hMi : va_Mi "[Ljava/lang/Object;" (G.2.2 3) s) (h : ∃ (w : Bool) (n : Nat) (x : mX5), M a = some (w, .inl (5, n, x))) (hframes : 1 ≤ R.frames) (hlocals : (rest.map fun v => v.category).sum + 14 ≤ R.locals) (hdg : decode cc pc = .ok (.invokevirtual index, 3))
    (k : W p l e R s m args below meth c H locs cells slots Q (F0 m (pc + 3) ls (.ref (G.2.2 3) :: rest))) : W p l e R s m args below meth c H locs cells slots Q (F0 m pc ls (.ref a :: rest)) := by
  obtain ⟨w, n, x, hM⟩ := h
  obtain ⟨cell, q1, q2, q3, q4, q5, q6, -⟩ := S.arr hM
  refine va_getC C.hx C.hb hml C.hown (C.ts _ hlink) (va_Nw.use rfl (C.nw q2129 rfl)) (C.ts _ q2128) (C.ts _ q680) (C.ts _ q708) hMi ⟨cell, q1, ?_, ?_⟩ hframes hlocals hdg k
  · cases hv : cell.vm <;> first | rfl | exact absurd hv (q3 _)
  · rw [q2]
    exact va_nmO ((C.kt.2.1 5 (.object "java/lang/Object") rfl).2 (by decide)) rfl
end MR9
