/-! MORE ROWS: a call of an overriding method whose reference names another method's code; the clone of a byte array; a cast to byte[] -/
theorem mWsO {own Cn owner : String} {idx : Nat} {x y : MethodName} {ws : List Cond} (h1 : Cond.methodLink own idx x ∈ lw_all) (h2 : Cond.sameMethod x.cls owner x.name x.desc ∈ lw_all) (h6 : Cond.instanceMethod ⟨owner, x.name, x.desc⟩ ∈ lw_all) (h3 : Cond.selects Cn x y ∈ lw_all) (h4 : Cond.instanceMethod y ∈ lw_all) (h5 : Cond.initialized y.cls ∈ lw_all) (h : GoodIn lw_all ws) : GoodIn lw_all (va_wsO own idx Cn owner x y ws) := by
  refine lw_app ?_ h
  intro w hw
  simp only [List.mem_cons, List.not_mem_nil, or_false] at hw
  rcases hw with e | e | e | e | e | e <;> rw [e] <;> assumption
/-- a byte array cloned -/
def clb (M : mM) (r a : Nat) (K : Nat → mM → Nat → Prop) : Prop := ∃ (n : Nat) (f : Nat → Int32), M a = some (true, .inl (3, n, .inl f)) ∧ n + 1 ≤ r ∧ (∀ i, i < n → fits .byte (.int (f i)) = true) ∧ ∀ q : Nat, (∀ x, q ≤ x → M x = none) → K q (mset M q (.inl (3, n, .inl f))) (r - (n + 1))
section MR11
variable {p : Program} {l : Launch} {e : Env} {R : Room} {s : State} {m : MethodId} {args : Array Value} {below : List Frame} {meth : Method} {c : Code} {H : Heap} {locs : List Loc} {cells slots : Nat} {Q : State → Prop}
variable {cc : ByteArray} {nL : Nat} {own : String} {G : mG} {A : Nat → Prop} {M : mM} {pc : Nat} {ls : Array Slot} {rest : List Value} {a : Nat}
theorem mm_clb (C : mCx p l s m args meth c cc nL own G A) (S : mW G A s M H locs) (hml : c.maxLocals = ls.size) {index : Nat} (hlink : Cond.methodLink own index ⟨"[B", "clone", "()Ljava/lang/Object;"⟩ ∈ lw_all) {r k b : Nat} {K : Nat → mM → Nat → Prop} (hR1 : R.cells = b) (hR2 : R.slots = b) (hk : k + r ≤ b) (h : clb M r a K) (hframes : 1 ≤ R.frames) (hlocals : (rest.map fun v => v.category).sum + 14 ≤ R.locals) (hdg : decode cc pc = .ok (.invokevirtual index, 3))
    (kk : ∀ (q : Nat) (M1 : mM) (r1 k1 : Nat) (H1 : Heap), K q M1 r1 → mW G A s M1 H1 locs → k1 + r1 ≤ b → W p l e R s m args below meth c H1 locs k1 k1 Q (F0 m (pc + 3) ls (.ref q :: rest))) : W p l e R s m args below meth c H locs k k Q (F0 m pc ls (.ref a :: rest)) := by
  obtain ⟨n, f, hM, hr, hf, hK⟩ := h
  obtain ⟨cell, q1, q2, q3, q4, q5, q6, q7, q8⟩ := S.arrW hM
  obtain ⟨c0, t0', f1, f2, f3⟩ := Cond.castable_spec (va_Nw.use (A := args) rfl (C.nw q784 rfl))
  have hnm : s.vm.findClass "[B" = some (G.2.1 3) := va_nm_byte ((C.kt.2.1 3 .byte rfl).2 (by decide))
  cases hnm.symm.trans f1
  have hia := mArr (C.kt.2.1 3 .byte rfl).1 q2 q3
  have hnew : mW G A s (mset M H.size (.inl (3, n, .inl f))) (H.push ({ cls := cell.cls, slots := cell.slots } : Cell)) locs := by
    refine S.new C.hA (mArrW (cell := { cls := cell.cls, slots := cell.slots }) (Array.getElem?_push_size ..) q2 (fun q => by intro z; cases z) (by intro z; cases z) q5 (fun j hj => q6 j hj) rfl rfl) (Array.size_push ..) (fun q hq => by rw [Array.getElem?_push, if_neg (Nat.ne_of_lt hq)])
  intro T hT X
  obtain ⟨-, kA, hkA, comp, hkind⟩ := State.isArrayOf_alike X.warmed.alike hia
  obtain ⟨-, kS, hkS, compS, hkindS⟩ := hia
  obtain ⟨vm', X', st⟩ := X.cloneArray C.hx C.hown (C.ts _ hlink) (C.ts _ q780) (C.ts _ q781) (C.ts _ q782) (C.ts _ q783) (a := a) (cell := cell) (by rw [hT]; exact q1) q3 q4 (by rw [q2]; exact hnm) f2 (by rw [q2]; exact f3)
    (fun i v hv => by
      have hk' : T.vm.classes[cell.cls]? = some kA := hkA
      have hv2 : fits .byte v = true := by
        rcases Nat.lt_or_ge i n with hi | hi
        · rw [q6 i hi] at hv
          cases hv
          exact hf i hi
        · rw [Array.getElem?_eq_none (by omega)] at hv
          cases hv
      simpa [State.fitsSlot, State.slotType?, hk', hkind] using hv2)
    (g := F0 m pc ls (.ref a :: rest)) rfl (by rw [hml]) rfl (by rw [C.hb]; exact hdg) hframes (by show 2 * 0 + _ + 14 ≤ _; omega) (by rw [hR1]; omega) (by rw [hR2, q5]; omega) (hloader := Vm.clonesLoader_of_array hkS hkindS)
  obtain ⟨t, a1, b1⟩ := (W.widen (cells := k + 1) (slots := k + cell.slots.size) (k := k + (n + 1)) (n := k + (n + 1)) (by omega) (by omega) (kk H.size _ _ (k + (n + 1)) _ (hK H.size fun x hx => S.1.fresh hx) hnew (by omega))) ((T.setVm vm').pushCell { cls := cell.cls, slots := cell.slots }) (by rw [← hT]; rfl) X'
  refine ⟨t, st t ?_, b1⟩
  rw [hT]
  exact a1
theorem mm_castB (C : mCx p l s m args meth c cc nL own G A) (S : mW G A s M H locs) {index : Nat} (hlink : Cond.classLink own index "[B" ∈ lw_all) (h : ∃ (w : Bool) (n : Nat) (x : mX5), M a = some (w, .inl (3, n, x))) (hdg : decode cc pc = .ok (.checkcast index, 3)) (kk : W p l e R s m args below meth c H locs cells slots Q (F0 m (pc + 3) ls (.ref a :: rest))) : W p l e R s m args below meth c H locs cells slots Q (F0 m pc ls (.ref a :: rest)) := by
  obtain ⟨w, n, x, hM⟩ := h
  obtain ⟨cell, q1, q2, q3, q4, q5, q6, -⟩ := S.arr hM
  have hnm : s.vm.findClass "[B" = some (G.2.1 3) := va_nm_byte ((C.kt.2.1 3 .byte rfl).2 (by decide))
  intro T hT X
  obtain ⟨vm', X', st⟩ := X.checkcastYes C.hx C.hown (C.ts _ hlink) (by rw [hT]; exact q1) (by cases hv : cell.vm <;> first | rfl | exact absurd hv (q3 _)) hnm (by rw [q2]; exact va_asg _ _) (g := F0 m pc ls (.ref a :: rest)) rfl rfl (by rw [C.hb]; exact hdg)
  obtain ⟨t, a1, b1⟩ := kk (T.setVm vm') hT X'
  exact ⟨t, st t a1, b1⟩
end MR11
