def iso (M : mM) (a : Nat) : Prop := ∃ (w : Bool) (ci : Nat) (fs : List Value), M a = some (w, .inr (ci, fs))
def stn (M : mM) (t a : Nat) (ty : FieldType) (i x : Int32) (K : mM → Prop) : Prop := ∃ (n : Nat) (f : Nat → Int32), M a = some (true, .inl (t, n, .inl f)) ∧ vp_in i n ∧ K (mset M a (.inl (t, n, .inl (upd f i.toNatClampNeg (vp_nar ty x)))))
section MR2
variable {p : Program} {l : Launch} {e : Env} {R : Room} {s : State} {m : MethodId} {args : Array Value} {below : List Frame} {meth : Method} {c : Code} {H : Heap} {locs : List Loc} {cells slots : Nat} {Q : State → Prop}
variable {cc : ByteArray} {nL : Nat} {own : String} {G : mG} {A : Nat → Prop} {M : mM} {pc : Nat} {ls : Array Slot} {rest : List Value} {a : Nat}
theorem mAt_st {w : Bool} {t n k : Nat} {x x' : mX5} {v : Value} {cell : Cell} {H1 : Heap} (q2 : cell.cls = G.2.1 t) (q3 : ∀ q, cell.vm ≠ .statics q) (q4 : cell.vm ≠ .unknown) (q5 : cell.slots.size = n) (q6 : ∀ j, j < n → cell.slots[j]? = some (mEl x j)) (q7 : cell.vm = .none ∧ cell.monitor = {}) (hk : k < n) (hx : ∀ j, mEl x' j = if j = k then v else mEl x j) (e1 : H1[a]? = some (cell.setSlot k v)) : mAt G true a (.inl (t, n, x')) H1 := by
  refine mArrW e1 q2 q3 q4 (by rw [Cell.setSlot]; simp [q5]) (fun j hj => ?_) q7.1 q7.2
  rw [hx j]
  by_cases hjk : j = k
  · subst hjk
    rw [if_pos rfl]
    exact Cell.slots_setSlot_self v (by rw [q5]; exact hj)
  · rw [if_neg hjk, slot_ne _ _ (Ne.symm hjk)]
    exact q6 j hj
theorem mEl_i (f : Nat → Int32) (k : Nat) (v : Int32) : ∀ j, mEl (.inl (upd f k v)) j = if j = k then .int v else mEl (.inl f) j := by
  intro j
  by_cases h : j = k
  · subst h; simp [mEl, upd]
  · simp [mEl, upd, h]
theorem mEl_l (f : Nat → Int64) (k : Nat) (v : Int64) : ∀ j, mEl (.inr (.inl (vp_updL f k v))) j = if j = k then .long v else mEl (.inr (.inl f)) j := by
  intro j
  by_cases h : j = k
  · subst h; simp [mEl, vp_updL]
  · simp [mEl, vp_updL, h]
theorem mEl_q (f : Nat → Option Nat) (k : Nat) (v : Option Nat) : ∀ j, mEl (.inr (.inr (.inr (.inr (va_up f k v))))) j = if j = k then va_rf v else mEl (.inr (.inr (.inr (.inr f)))) j := by
  intro j
  by_cases h : j = k
  · subst h; simp [mEl, va_up]
  · simp [mEl, va_up, h]
theorem mLt {i : Int32} {n : Nat} (h : vp_in i n) : i.toNatClampNeg < n := Nat.not_le.mp fun q => h (Or.inr q)
theorem mm_iald (C : mCx p l s m args meth c cc nL own G A) (S : mW G A s M H locs) {i : Int32} {K : Int32 → Prop} (h : ldi M 0 a i K) (hdg : decode cc pc = .ok (.iaload, 1)) (kk : ∀ v, K v → W p l e R s m args below meth c H locs cells slots Q (F0 m (pc + 1) ls (.int v :: rest))) : W p l e R s m args below meth c H locs cells slots Q (F0 m pc ls (.int i :: .ref a :: rest)) := by
  obtain ⟨w, n, f, h1, h2, h3⟩ := h
  obtain ⟨cell, q1, q2, q3, q4, q5, q6, -⟩ := S.arr h1
  exact W.iald (v := .int (f i.toNatClampNeg)) C.hx C.hb q1 (mArr (C.kt.2.1 0 .int rfl).1 q2 q3) q4 (mIn q5.1 h2) (q6 _ (mLt h2)) rfl rfl hdg (kk _ h3)
theorem mm_zald (C : mCx p l s m args meth c cc nL own G A) (S : mW G A s M H locs) {i : Int32} {K : Int32 → Prop} (h : ldi M 1 a i K) (hdg : decode cc pc = .ok (.baload, 1)) (kk : ∀ v, K v → W p l e R s m args below meth c H locs cells slots Q (F0 m (pc + 1) ls (.int v :: rest))) : W p l e R s m args below meth c H locs cells slots Q (F0 m pc ls (.int i :: .ref a :: rest)) := by
  obtain ⟨w, n, f, h1, h2, h3⟩ := h
  obtain ⟨cell, q1, q2, q3, q4, q5, q6, -⟩ := S.arr h1
  exact W.zald (v := .int (f i.toNatClampNeg)) C.hx C.hb q1 (mArr (C.kt.2.1 1 .boolean rfl).1 q2 q3) q4 (mIn q5.1 h2) (q6 _ (mLt h2)) rfl rfl hdg (kk _ h3)
theorem mm_sald (C : mCx p l s m args meth c cc nL own G A) (S : mW G A s M H locs) {i : Int32} {K : Int32 → Prop} (h : ldi M 2 a i K) (hdg : decode cc pc = .ok (.saload, 1)) (kk : ∀ v, K v → W p l e R s m args below meth c H locs cells slots Q (F0 m (pc + 1) ls (.int v :: rest))) : W p l e R s m args below meth c H locs cells slots Q (F0 m pc ls (.int i :: .ref a :: rest)) := by
  obtain ⟨w, n, f, h1, h2, h3⟩ := h
  obtain ⟨cell, q1, q2, q3, q4, q5, q6, -⟩ := S.arr h1
  exact W.sald (v := .int (f i.toNatClampNeg)) C.hx C.hb q1 (mArr (C.kt.2.1 2 .short rfl).1 q2 q3) q4 (mIn q5.1 h2) (q6 _ (mLt h2)) rfl rfl hdg (kk _ h3)
theorem mm_bald (C : mCx p l s m args meth c cc nL own G A) (S : mW G A s M H locs) {i : Int32} {K : Int32 → Prop} (h : ldi M 3 a i K) (hdg : decode cc pc = .ok (.baload, 1)) (kk : ∀ v, K v → W p l e R s m args below meth c H locs cells slots Q (F0 m (pc + 1) ls (.int v :: rest))) : W p l e R s m args below meth c H locs cells slots Q (F0 m pc ls (.int i :: .ref a :: rest)) := by
  obtain ⟨w, n, f, h1, h2, h3⟩ := h
  obtain ⟨cell, q1, q2, q3, q4, q5, q6, -⟩ := S.arr h1
  exact W.bald (v := .int (f i.toNatClampNeg)) C.hx C.hb q1 (mArr (C.kt.2.1 3 .byte rfl).1 q2 q3) q4 (mIn q5.1 h2) (q6 _ (mLt h2)) rfl rfl hdg (kk _ h3)
theorem mm_lald (C : mCx p l s m args meth c cc nL own G A) (S : mW G A s M H locs) {i : Int32} {K : Int64 → Prop} (h : ldl M 4 a i K) (hdg : decode cc pc = .ok (.laload, 1)) (kk : ∀ v, K v → W p l e R s m args below meth c H locs cells slots Q (F0 m (pc + 1) ls (.long v :: rest))) : W p l e R s m args below meth c H locs cells slots Q (F0 m pc ls (.int i :: .ref a :: rest)) := by
  obtain ⟨w, n, f, h1, h2, h3⟩ := h
  obtain ⟨cell, q1, q2, q3, q4, q5, q6, -⟩ := S.arr h1
  exact W.lald (v := .long (f i.toNatClampNeg)) C.hx C.hb q1 (mArr (C.kt.2.1 4 .long rfl).1 q2 q3) q4 (mIn q5.1 h2) (q6 _ (mLt h2)) rfl rfl hdg (kk _ h3)
theorem mm_aald (C : mCx p l s m args meth c cc nL own G A) (S : mW G A s M H locs) {t : Nat} {ty : FieldType} (hty : mTy[t]? = some ty) (href : ty.isReference = true) {i : Int32} {K : Nat → Prop} (h : lda M t a i K) (hdg : decode cc pc = .ok (.aaload, 1)) (kk : ∀ v, K v → W p l e R s m args below meth c H locs cells slots Q (F0 m (pc + 1) ls (.ref v :: rest))) : W p l e R s m args below meth c H locs cells slots Q (F0 m pc ls (.int i :: .ref a :: rest)) := by
  obtain ⟨w, n, f, v, h1, h2, h3, h4⟩ := h
  obtain ⟨cell, q1, q2, q3, q4, q5, q6, -⟩ := S.arr h1
  have e := q6 _ (mLt h2)
  have e2 : mEl (.inr (.inr (.inr (.inr f)))) i.toNatClampNeg = .ref v := by simp [mEl, h3, va_rf]
  rw [e2] at e
  exact W.aald (v := .ref v) (ty := ty) C.hx C.hb q1 (mArr (C.kt.2.1 t ty hty).1 q2 q3) href q4 (mIn q5.1 h2) e rfl rfl hdg (kk _ h4)
theorem mm_alen (C : mCx p l s m args meth c cc nL own G A) (S : mW G A s M H locs) {K : Int32 → Prop} (h : aln M a K) (hdg : decode cc pc = .ok (.arraylength, 1)) (kk : ∀ v, K v → W p l e R s m args below meth c H locs cells slots Q (F0 m (pc + 1) ls (.int v :: rest))) : W p l e R s m args below meth c H locs cells slots Q (F0 m pc ls (.ref a :: rest)) := by
  obtain ⟨w, t', n, x, h1, ht, h2⟩ := h
  obtain ⟨cell, q1, q2, q3, q4, q5, q6, -⟩ := S.arr h1
  have hty' := List.getElem?_eq_getElem (l := mTy) (i := t') ht
  exact W.alen (n := Int32.ofNat n) C.hx C.hb q1 (mArr (C.kt.2.1 t' _ hty').1 q2 q3) q5.2 rfl rfl hdg (kk _ h2)
theorem mm_iast (C : mCx p l s m args meth c cc nL own G A) (S : mW G A s M H locs) {i x : Int32} {K : mM → Prop} (h : sti M 0 a i x K) (hdg : decode cc pc = .ok (.iastore, 1)) (kk : ∀ (M1 : mM) (H1 : Heap) (locs1 : List Loc), K M1 → mW G A s M1 H1 locs1 → W p l e R s m args below meth c H1 locs1 cells slots Q (F0 m (pc + 1) ls rest)) : W p l e R s m args below meth c H locs cells slots Q (F0 m pc ls (.int x :: .int i :: .ref a :: rest)) := by
  obtain ⟨n, f, h1, h2, h3⟩ := h
  obtain ⟨cell, q1, q2, q3, q4, q5, q6, q7⟩ := S.arrW h1
  refine W.iast C.hx C.hb q1 (mArr (C.kt.2.1 0 .int rfl).1 q2 q3) q4 (by rw [q5]; exact h2) rfl rfl hdg fun H1 e1 z oq => ?_
  exact kk _ H1 _ h3 (S.put h1 (mAt_st (w := true) q2 q3 q4 q5 q6 q7 (mLt h2) (mEl_i f _ x) e1) z oq)
theorem mm_zast (C : mCx p l s m args meth c cc nL own G A) (S : mW G A s M H locs) {i x : Int32} {K : mM → Prop} (h : stn M 1 a .boolean i x K) (hdg : decode cc pc = .ok (.bastore, 1)) (kk : ∀ (M1 : mM) (H1 : Heap) (locs1 : List Loc), K M1 → mW G A s M1 H1 locs1 → W p l e R s m args below meth c H1 locs1 cells slots Q (F0 m (pc + 1) ls rest)) : W p l e R s m args below meth c H locs cells slots Q (F0 m pc ls (.int x :: .int i :: .ref a :: rest)) := by
  obtain ⟨n, f, h1, h2, h3⟩ := h
  obtain ⟨cell, q1, q2, q3, q4, q5, q6, q7⟩ := S.arrW h1
  refine W.zast C.hx C.hb q1 (mArr (C.kt.2.1 1 .boolean rfl).1 q2 q3) q4 (by rw [q5]; exact h2) rfl rfl hdg fun H1 e1 z oq => ?_
  exact kk _ H1 _ h3 (S.put h1 (mAt_st (w := true) (v := .int (vp_nar .boolean x)) q2 q3 q4 q5 q6 q7 (mLt h2) (mEl_i f _ _) e1) z oq)
theorem mm_bast (C : mCx p l s m args meth c cc nL own G A) (S : mW G A s M H locs) {i x : Int32} {K : mM → Prop} (h : stn M 3 a .byte i x K) (hdg : decode cc pc = .ok (.bastore, 1)) (kk : ∀ (M1 : mM) (H1 : Heap) (locs1 : List Loc), K M1 → mW G A s M1 H1 locs1 → W p l e R s m args below meth c H1 locs1 cells slots Q (F0 m (pc + 1) ls rest)) : W p l e R s m args below meth c H locs cells slots Q (F0 m pc ls (.int x :: .int i :: .ref a :: rest)) := by
  obtain ⟨n, f, h1, h2, h3⟩ := h
  obtain ⟨cell, q1, q2, q3, q4, q5, q6, q7⟩ := S.arrW h1
  refine W.bast C.hx C.hb q1 (mArr (C.kt.2.1 3 .byte rfl).1 q2 q3) q4 (by rw [q5]; exact h2) rfl rfl hdg fun H1 e1 z oq => ?_
  exact kk _ H1 _ h3 (S.put h1 (mAt_st (w := true) (v := .int (vp_nar .byte x)) q2 q3 q4 q5 q6 q7 (mLt h2) (mEl_i f _ _) e1) z oq)
theorem mm_sast (C : mCx p l s m args meth c cc nL own G A) (S : mW G A s M H locs) {i x : Int32} {K : mM → Prop} (h : stn M 2 a .short i x K) (hdg : decode cc pc = .ok (.sastore, 1)) (kk : ∀ (M1 : mM) (H1 : Heap) (locs1 : List Loc), K M1 → mW G A s M1 H1 locs1 → W p l e R s m args below meth c H1 locs1 cells slots Q (F0 m (pc + 1) ls rest)) : W p l e R s m args below meth c H locs cells slots Q (F0 m pc ls (.int x :: .int i :: .ref a :: rest)) := by
  obtain ⟨n, f, h1, h2, h3⟩ := h
  obtain ⟨cell, q1, q2, q3, q4, q5, q6, q7⟩ := S.arrW h1
  refine W.sast C.hx C.hb q1 (mArr (C.kt.2.1 2 .short rfl).1 q2 q3) q4 (by rw [q5]; exact h2) rfl rfl hdg fun H1 e1 z oq => ?_
  exact kk _ H1 _ h3 (S.put h1 (mAt_st (w := true) (v := .int (vp_nar .short x)) q2 q3 q4 q5 q6 q7 (mLt h2) (mEl_i f _ _) e1) z oq)
theorem mm_last (C : mCx p l s m args meth c cc nL own G A) (S : mW G A s M H locs) {i : Int32} {x : Int64} {K : mM → Prop} (h : stl M 4 a i x K) (hdg : decode cc pc = .ok (.lastore, 1)) (kk : ∀ (M1 : mM) (H1 : Heap) (locs1 : List Loc), K M1 → mW G A s M1 H1 locs1 → W p l e R s m args below meth c H1 locs1 cells slots Q (F0 m (pc + 1) ls rest)) : W p l e R s m args below meth c H locs cells slots Q (F0 m pc ls (.long x :: .int i :: .ref a :: rest)) := by
  obtain ⟨n, f, h1, h2, h3⟩ := h
  obtain ⟨cell, q1, q2, q3, q4, q5, q6, q7⟩ := S.arrW h1
  refine W.last C.hx C.hb q1 (mArr (C.kt.2.1 4 .long rfl).1 q2 q3) q4 (by rw [q5]; exact h2) rfl rfl hdg fun H1 e1 z oq => ?_
  exact kk _ H1 _ h3 (S.put h1 (mAt_st (w := true) q2 q3 q4 q5 q6 q7 (mLt h2) (mEl_l f _ x) e1) z oq)
/-- a reference into an array: its class can be held there -/
theorem mm_aast (C : mCx p l s m args meth c cc nL own G A) (S : mW G A s M H locs) {t x : Nat} {Cn : String} (hty : mTy[t]? = some (.object Cn)) (hva : (FieldType.object Cn ≠ .object "java/lang/Integer")) {i : Int32} {K : mM → Prop} (h : sta M t a i x K) (hx : iso M x) (hcast : ∀ (w : Bool) (ci : Nat) (fs : List Value), M x = some (w, .inr (ci, fs)) → ∀ comp : ClassId, s.vm.findClass Cn = some comp → s.vm.assignable (G.1.1 ci) comp = true) (hdg : decode cc pc = .ok (.aastore, 1)) (kk : ∀ (M1 : mM) (H1 : Heap) (locs1 : List Loc), K M1 → mW G A s M1 H1 locs1 → W p l e R s m args below meth c H1 locs1 cells slots Q (F0 m (pc + 1) ls rest)) : W p l e R s m args below meth c H locs cells slots Q (F0 m pc ls (.ref x :: .int i :: .ref a :: rest)) := by
  obtain ⟨n, f, h1, h2, h3⟩ := h
  obtain ⟨cell, q1, q2, q3, q4, q5, q6, q7⟩ := S.arrW h1
  obtain ⟨wx, ci, fs, hMx⟩ := hx
  obtain ⟨r, cx, g0, g1, g2, g3, -⟩ := S.1 x wx _ hMx
  have hn : t < 12 := by
    rcases Nat.lt_or_ge t 12 with z | z
    · exact z
    · rcases Nat.lt_or_ge t 14 with z2 | z2
      · rcases (by omega : t = 12 ∨ t = 13) with z3 | z3
        · subst z3
          exact absurd (Option.some.inj (hty.symm.trans rfl)) hva
        · subst z3
          cases (Option.some.inj (hty.symm.trans (rfl : mTy[13]? = some .int)))
      · rw [List.getElem?_eq_none (by exact z2)] at hty
        cases hty
  obtain ⟨kA, comp, k1, k2, k3, -⟩ := (C.kt.2.1 t _ hty).2 hn
  obtain ⟨hfc, kC, hkC, -⟩ := (C.kt.1 ci r g0).2
  obtain ⟨kcomp, hkcomp, -⟩ := Vm.findClass_spec k3
  refine W.aast C.hx C.hb q1 q3 q4 (by rw [q2]; exact k1) k2 rfl hkcomp ⟨fun z => h2 (Or.inl z), by rw [q5]; exact mLt h2⟩ g1 (fun q hh => by have g4 := g3.1; rw [hh] at g4; cases g4) (by rw [g2]; exact hkC) (by rw [g2]; exact hcast wx ci fs hMx comp k3) rfl rfl hdg fun H1 e1 z oq => ?_
  exact kk _ H1 _ h3 (S.put h1 (mAt_st (w := true) (v := .ref x) q2 q3 q4 q5 q6 q7 (mLt h2) (mEl_q f _ (some x)) e1) z oq)
theorem mm_new (C : mCx p l s m args meth c cc nL own G A) (S : mW G A s M H locs) {ci : Nat} {Cn : String} {T : u_T} {N index : Nat} (hc : mCl[ci]? = some (Cn, T, N)) (hin : ∀ w ∈ u_ws Cn T N, w ∈ lw_all) {ty : Nat → FieldType} (hty : ∀ k, k < N → parseFieldDescriptor (T k).2.2.1 = some (ty k)) (hclk : Cond.classLink own index Cn ∈ lw_all) (hinst : Cond.instantiable Cn N ∈ lw_all) (hini : Cond.initialized Cn ∈ lw_all) {fs : List Value} (hfs : ∀ j, j < N → defaultValue (ty j) = vp_V fs j) (hfl : N ≤ fs.length) (hdg : decode cc pc = .ok (.new index, 3)) {r k b : Nat} {K : Nat → mM → Nat → Prop} (hR1 : R.cells = b) (hR2 : R.slots = b) (hk : k + r ≤ b) (h : nwo M r ci N fs K)
    (kk : ∀ (q : Nat) (M1 : mM) (r1 : Nat) (H1 : Heap), K q M1 r1 → mW G A s M1 H1 locs → k + (N + 1) + r1 ≤ b → W p l e R s m args below meth c H1 locs (k + (N + 1)) (k + (N + 1)) Q (F0 m (pc + 3) ls (.ref q :: rest))) : W p l e R s m args below meth c H locs k k Q (F0 m pc ls rest) := by
  obtain ⟨hr, hK⟩ := h
  have hKn := C.kt.1 ci _ hc
  refine W.newcK C.hx C.hb C.hown (C.ts _ hclk) (C.ts _ hinst) (C.ts _ hini) rfl hdg (by rw [hR1]; omega) (by rw [hR2]; omega) hKn.2.1 rfl fun H1 kC hkC e1 z1 o1 => ?_
  refine W.widen (k := k + (N + 1)) (n := k + (N + 1)) (by omega) (by omega) ?_
  obtain ⟨cell, g1, g2, g3, g4⟩ := (u_born ty C.ts hin hKn hkC e1 hty).to hfs
  refine kk H.size _ _ H1 (hK H.size fun x hx => S.1.fresh hx) (S.new C.hA ⟨(Cn, T, N), cell, hc, g1, g2, ⟨by rw [g3]; rfl, by rw [g3]; exact fun z => by cases z⟩, fun j hj _ => g4 j hj, fun _ => ⟨g3, ?_, hfl⟩⟩ z1 o1) (by omega)
  cases g1.symm.trans e1
  rfl
theorem mm_newa (C : mCx p l s m args meth c cc nL own G A) (S : mW G A s M H locs) {atype : ArrayType} {t : Nat} {ty : FieldType} (hat : newarray.typeOf atype = ty) (hty : mTy[t]? = some ty) (h12 : t < 12) (harr : Cond.arrayClass ty ∈ lw_all) (hra : ∀ cA, va_RA s cA ty → s.vm.findClass ("[" ++ ty.toString) = some cA) {n : Int32} {x : mX5} (hx : ∀ j, mEl x j = defaultValue ty) (hcb : componentBytes ty ≤ 8) (hdg : decode cc pc = .ok (.newarray atype, 2)) {r k b : Nat} {K : Nat → mM → Nat → Prop} (hR1 : R.cells = b) (hR2 : R.slots = b) (hk : k + r ≤ b) (h : nwa M r t n x K)
    (kk : ∀ (q : Nat) (M1 : mM) (r1 k1 : Nat) (H1 : Heap), K q M1 r1 → mW G A s M1 H1 locs → k1 + r1 ≤ b → W p l e R s m args below meth c H1 locs k1 k1 Q (F0 m (pc + 2) ls (.ref q :: rest))) : W p l e R s m args below meth c H locs k k Q (F0 m pc ls (.int n :: rest)) := by
  obtain ⟨hn, hb, hr, hK⟩ := h
  subst hat
  refine va_newaK C.hx C.hb (C.ts _ harr) rfl hdg rfl hn rfl (Nat.le_trans (Nat.mul_le_mul hb hcb) (Nat.le_of_ble_eq_true rfl)) (by rw [hR1]; omega) (by rw [hR2]; omega) rfl fun H1 cA e1 z1 o1 hAr hNm => ?_
  have hcA : cA = G.2.1 t := Option.some.inj (hNm.symm.trans (hra _ ((C.kt.2.1 t _ hty).2 h12)))
  subst hcA
  refine W.widen (k := k + (n.toNatClampNeg + 1)) (n := k + (n.toNatClampNeg + 1)) (by omega) (by omega) ?_
  refine kk H.size _ _ _ H1 (hK H.size fun x hx => S.1.fresh hx) (S.new C.hA (mArrW e1 rfl (fun q => by intro z; cases z) (by intro z; cases z) (arrV_size _ _ _) (fun j hj => ?_) rfl rfl) z1 o1) (by omega)
  rw [arrV_read _ _ hj, hx]
theorem mm_anew (C : mCx p l s m args meth c cc nL own G A) (S : mW G A s M H locs) {t index : Nat} {Cn : String} (hty : mTy[t]? = some (.object Cn)) (h12 : t < 12) (hclk : Cond.classLink own index Cn ∈ lw_all) (hao : FieldType.object Cn ∈ mAo) {n : Int32} (hdg : decode cc pc = .ok (.anewarray index, 3)) {r k b : Nat} {K : Nat → mM → Nat → Prop} (hR1 : R.cells = b) (hR2 : R.slots = b) (hk : k + r ≤ b) (h : nwa M r t n (.inr (.inr (.inr (.inr fun _ => none)))) K)
    (kk : ∀ (q : Nat) (M1 : mM) (r1 k1 : Nat) (H1 : Heap), K q M1 r1 → mW G A s M1 H1 locs → k1 + r1 ≤ b → W p l e R s m args below meth c H1 locs k1 k1 Q (F0 m (pc + 3) ls (.ref q :: rest))) : W p l e R s m args below meth c H locs k k Q (F0 m pc ls (.int n :: rest)) := by
  obtain ⟨hn, hb, hr, hK⟩ := h
  refine W.anew C.hx C.hb C.hown (C.ts _ hclk) (va_AO.use (C.kt.2.2.2.2.1 _ hao)) rfl hdg rfl hn (Nat.le_trans (Nat.mul_le_mul_right 4 hb) (Nat.le_of_ble_eq_true rfl)) (by rw [hR1]; omega) (by rw [hR2]; omega) fun cA kA comp f1 f2 f3 f4 => ?_
  have hcA : cA = G.2.1 t := by
    obtain ⟨_, _, _, _, _, h5⟩ := (C.kt.2.1 t _ hty).2 h12
    exact Option.some.inj (f1.symm.trans h5)
  subst hcA
  generalize hH1 : H.push ({ cls := G.2.1 t, slots := Array.replicate n.toNatClampNeg .null, vm := .none } : Cell) = H1
  have z1 : H1.size = H.size + 1 := by rw [← hH1, Array.size_push]
  have e1 : H1[H.size]? = some (arrV (G.2.1 t) n.toNatClampNeg (fun _ => .null)) := by rw [← hH1, Array.getElem?_push_size, ← arrV_new]
  have o1 : ∀ q : Nat, q < H.size → H1[q]? = H[q]? := fun q hq => by rw [← hH1, Array.getElem?_push, if_neg (Nat.ne_of_lt hq)]
  refine W.widen (k := k + (n.toNatClampNeg + 1)) (n := k + (n.toNatClampNeg + 1)) (by omega) (by omega) ?_
  refine kk H.size _ _ _ H1 (hK H.size fun x hx => S.1.fresh hx) (S.new C.hA (mArrW e1 rfl (fun q => by intro z; cases z) (by intro z; cases z) (arrV_size _ _ _) (fun j hj => ?_) rfl rfl) z1 o1) (by omega)
  rw [arrV_read _ _ hj]
  rfl
theorem mm_pre (C : mCx p l s m args meth c cc nL own G A) (S : mW G A s M H locs) {U : State} (hU : U.heap = H) (hW : s.WarmedH U.vm) : mPre G M H.size U := by
  refine ⟨by rw [hU], by rw [hU]; exact S.1, C.kt.warm hW, ?_⟩
  rw [hU]
  refine ((C.ks.kept S.2.2.2.1).narrow ?_).moved hW.alike
  rintro q (⟨e, h⟩ | h)
  · exact S.2.1 q e h
  · exact C.hA q (Nat.le_trans S.2.2.1 h)
theorem mm_blind (av : List Value) (G : mG) (M : mM) (sz : Nat) : FrameBlind (va_Pc av (mPre G M sz)) := fun a U g mk q => ⟨q.1, q.2.1, q.2.2.1, mKT.same (s := U) (U := U.calling g mk a) rfl q.2.2.2.1, mKS.moved (u := U) (U := U.calling g mk a) (Vm.Alike.refl U.vm) q.2.2.2.2⟩
/-- behind a call -/
theorem mm_back (C : mCx p l s m args meth c cc nL own G A) (S : mW G A s M H locs) {st₀ t T' : State} {L : List Loc} {M1 : mM} (h0 : st₀.heap = H) (e1 : T'.heap = t.heap) (hL : ∀ q ∈ L, mA M H.size q.base) (hP : mP G M1 t.heap) (hd : ∀ q e, M1 q = some (true, e) → mA M H.size q) (hF : va_F (mA M H.size) st₀ t) : mW G A s M1 T'.heap (locs ++ L) := by
  have hAA : ∀ q, mA M H.size q → A q := by
    rintro q (⟨e, h⟩ | h)
    · exact S.2.1 q e h
    · exact C.hA q (Nat.le_trans S.2.2.1 h)
  obtain ⟨-, -, k3⟩ := vx_keep (A1 := mA M H.size) h0 e1 S.2.2 (fun q _ h => hAA q h) hAA hL hF
  exact ⟨by rw [e1]; exact hP, fun q e h => hAA q (hd q e h), k3⟩
theorem mm_call (C : mCx p l s m args meth c cc nL own G A) (S : mW G A s M H locs) {P : Option Value → mM → Prop} {X : String → Nat → mM → Prop} {av : Array Value} {st0 : List Value} {k b1 b r r1 : Nat}
    (hr : vx_Run p l e R s m args below meth c H locs k k b1 b1 (F0 m pc ls st0) rest (mQ G (mA M H.size) P av) (mXC G (mA M H.size) X) (mA M H.size)) (hk : k + r ≤ b) (hr1 : b1 + r1 = r)
    (kk : ∀ (v : Option Value) (M1 : mM) (H1 : Heap) (locs1 : List Loc), P v M1 → mW G A s M1 H1 locs1 → k + b1 + r1 ≤ b → W p l e R s m args below meth c H1 locs1 (k + b1) (k + b1) Q (F0 m (pc + 3) ls (v.toList ++ rest)))
    (kx : ∀ (E : String) (q : Nat) (ce : Cell) (M1 : mM) (H1 : Heap) (locs1 : List Loc), X E q M1 → mW G A s M1 H1 locs1 → k + b1 + r1 ≤ b → H1[q]? = some ce → ce.vm = .none → s.vm.findClass E = some ce.cls → vx_W p l e R s m args below meth c H1 locs1 (k + b1) (k + b1) Q (F0 m pc ls rest) q) : W p l e R s m args below meth c H locs k k Q (F0 m pc ls st0) := by
  intro T hT XX
  rcases hr T hT XX with ⟨v, st₀, t, T', L, h0, X', hL, e1, e2, ⟨⟨v', M1, hv, hp, hP, hd⟩, hF⟩, st⟩ | ⟨q, st₀, t, T', L, E, ce, h0, X', hL, e1, e2, ⟨⟨M1, hx, hP, hd⟩, hF⟩, hce, hcv, hcl, st⟩
  · cases hv
    obtain ⟨t2, a1, b2⟩ := kk v M1 T'.heap (locs ++ L) hp (mm_back C S h0 e1 hL hP hd hF) (by omega) T' rfl X'
    exact ⟨t2, st t2 a1, b2⟩
  · obtain ⟨t2, a1, b2⟩ := kx E q ce M1 T'.heap (locs ++ L) hx (mm_back C S h0 e1 hL hP hd hF) (by omega) (by rw [e1]; exact hce) hcv hcl T' rfl X'
    exact ⟨t2, st.trans a1, b2⟩
theorem mm_call5 (C : mCx p l s m args meth c cc nL own G A) (S : mW G A s M H locs) {P : Option Value → mM → Prop} {X : String → Nat → mM → Prop} {av : Array Value} {st0 : List Value} {k b1 b r r1 : Nat}
    (hr : vx_Run5 p l e R s m args below meth c H locs k k b1 b1 (F0 m pc ls st0) rest (mQ G (mA M H.size) P av) (mXC G (mA M H.size) X) (mA M H.size)) (hk : k + r ≤ b) (hr1 : b1 + r1 = r)
    (kk : ∀ (v : Option Value) (M1 : mM) (H1 : Heap) (locs1 : List Loc), P v M1 → mW G A s M1 H1 locs1 → k + b1 + r1 ≤ b → W p l e R s m args below meth c H1 locs1 (k + b1) (k + b1) Q (F0 m (pc + 5) ls (v.toList ++ rest)))
    (kx : ∀ (E : String) (q : Nat) (ce : Cell) (M1 : mM) (H1 : Heap) (locs1 : List Loc), X E q M1 → mW G A s M1 H1 locs1 → k + b1 + r1 ≤ b → H1[q]? = some ce → ce.vm = .none → s.vm.findClass E = some ce.cls → vx_W p l e R s m args below meth c H1 locs1 (k + b1) (k + b1) Q (F0 m pc ls rest) q) : W p l e R s m args below meth c H locs k k Q (F0 m pc ls st0) := by
  intro T hT XX
  rcases hr T hT XX with ⟨v, st₀, t, T', L, h0, X', hL, e1, e2, ⟨⟨v', M1, hv, hp, hP, hd⟩, hF⟩, st⟩ | ⟨q, st₀, t, T', L, E, ce, h0, X', hL, e1, e2, ⟨⟨M1, hx, hP, hd⟩, hF⟩, hce, hcv, hcl, st⟩
  · cases hv
    obtain ⟨t2, a1, b2⟩ := kk v M1 T'.heap (locs ++ L) hp (mm_back C S h0 e1 hL hP hd hF) (by omega) T' rfl X'
    exact ⟨t2, st t2 a1, b2⟩
  · obtain ⟨t2, a1, b2⟩ := kx E q ce M1 T'.heap (locs ++ L) hx (mm_back C S h0 e1 hL hP hd hF) (by omega) (by rw [e1]; exact hce) hcv hcl T' rfl X'
    exact ⟨t2, st.trans a1, b2⟩
/-- the receiver -/
theorem mm_recv (C : mCx p l s m args meth c cc nL own G A) (S : mW G A s M H locs) {ci : Nat} {r : vw_C} (hc : mCl[ci]? = some r) (h : isc M a ci) : ∃ cell : Cell, H[a]? = some cell ∧ cell.vm.isStatics = false ∧ s.vm.findClass r.1 = some cell.cls := by
  obtain ⟨w, fs, hM⟩ := h
  obtain ⟨cell, q1, q2, q3, -⟩ := S.obj hM hc
  exact ⟨cell, q1, q3.1, by rw [q2]; exact (C.kt.1 ci r hc).2.1⟩
abbrev mMd (y : MethodName) (n : Nat) : Prop := y.cls ≠ "java/lang/invoke/MethodHandle" ∧ y.cls ≠ "java/lang/invoke/VarHandle" ∧ (parseMethodDescriptor y.desc).map (fun d => d.parameters.length) = some n
abbrev mRo (L b maxL : Nat) (R : Room) : Prop := (mRm L b).frames + 1 ≤ R.frames ∧ 8 + (maxL + 11) + (mRm L b).locals ≤ R.locals
section CALLS
variable {P : Option Value → mM → Prop} {X : String → Nat → mM → Prop} {k b1 b r r1 Lc maxL n index ci : Nat} {y : MethodName} {bytes : ByteArray} {ret : Option FieldType} {As : List Value} {Cn : String} {T : u_T} {N : Nat} {st0 : List Value}
theorem mm_V (C : mCx p l s m args meth c cc nL own G A) (S : mW G A s M H locs) (hls : ls.size = nL) (hM : mMet l y (ws_ y bytes maxL ret) Lc b1 G (.ref a :: As) M P X) (hc : mCl[ci]? = some (Cn, T, N)) (hi : isc M a ci) (hw : GoodIn lw_all (wsV own index Cn y (ws_ y bytes maxL ret))) (hy : y.cls = Cn) (hd : mMd y n) (hR : mRo Lc b1 maxL R) (hn : As.length = n) (hst : st0 = As.reverse ++ .ref a :: rest) (hrm : (rest.map fun v => v.category).sum ≤ 8) (hdg : decode cc pc = .ok (.invokevirtual index, 3)) (hR1 : R.cells = b) (hR2 : R.slots = b) (hk : k + r ≤ b) (hr1 : b1 + r1 = r)
    (kk : ∀ (v : Option Value) (M1 : mM) (H1 : Heap) (locs1 : List Loc), P v M1 → mW G A s M1 H1 locs1 → k + b1 + r1 ≤ b → W p l e R s m args below meth c H1 locs1 (k + b1) (k + b1) Q (F0 m (pc + 3) ls (v.toList ++ rest)))
    (kx : ∀ (E : String) (q : Nat) (ce : Cell) (M1 : mM) (H1 : Heap) (locs1 : List Loc), X E q M1 → mW G A s M1 H1 locs1 → k + b1 + r1 ≤ b → H1[q]? = some ce → ce.vm = .none → s.vm.findClass E = some ce.cls → vx_W p l e R s m args below meth c H1 locs1 (k + b1) (k + b1) Q (F0 m pc ls rest) q) : W p l e R s m args below meth c H locs k k Q (F0 m pc ls st0) := by
  subst hst
  exact mm_call C S (vx_runV C.fix (hM H.size) (cwV n C.ts hw rfl rfl rfl ⟨hy, hd⟩ hR) ⟨mm_blind _ G M H.size, mm_recv C S hc hi, fun U hU hW => ⟨rfl, mm_pre C S hU hW⟩⟩ rfl hn hls rfl (by show 2 * 0 + _ ≤ 8; omega) hdg ⟨by rw [hR1]; omega, by rw [hR2]; omega⟩) hk hr1 kk kx
theorem mm_S (C : mCx p l s m args meth c cc nL own G A) (S : mW G A s M H locs) (hls : ls.size = nL) (hM : mMet l y (ws_ y bytes maxL ret) Lc b1 G As M P X) (hw : GoodIn lw_all (va_wsS own index y (ws_ y bytes maxL ret))) (hd : mMd y n) (hR : mRo Lc b1 maxL R) (hn : As.length = n) (hst : st0 = As.reverse ++ rest) (hrm : (rest.map fun v => v.category).sum ≤ 8) (hdg : decode cc pc = .ok (.invokestatic index, 3)) (hR1 : R.cells = b) (hR2 : R.slots = b) (hk : k + r ≤ b) (hr1 : b1 + r1 = r)
    (kk : ∀ (v : Option Value) (M1 : mM) (H1 : Heap) (locs1 : List Loc), P v M1 → mW G A s M1 H1 locs1 → k + b1 + r1 ≤ b → W p l e R s m args below meth c H1 locs1 (k + b1) (k + b1) Q (F0 m (pc + 3) ls (v.toList ++ rest)))
    (kx : ∀ (E : String) (q : Nat) (ce : Cell) (M1 : mM) (H1 : Heap) (locs1 : List Loc), X E q M1 → mW G A s M1 H1 locs1 → k + b1 + r1 ≤ b → H1[q]? = some ce → ce.vm = .none → s.vm.findClass E = some ce.cls → vx_W p l e R s m args below meth c H1 locs1 (k + b1) (k + b1) Q (F0 m pc ls rest) q) : W p l e R s m args below meth c H locs k k Q (F0 m pc ls st0) := by
  subst hst
  exact mm_call C S (vx_runS C.fix (hM H.size) (va_cwS n C.ts hw rfl rfl rfl hd hR) ⟨mm_blind _ G M H.size, fun U hU hW => ⟨rfl, mm_pre C S hU hW⟩⟩ rfl hn hls rfl (by show 2 * 0 + _ ≤ 8; omega) hdg ⟨by rw [hR1]; omega, by rw [hR2]; omega⟩) hk hr1 kk kx
theorem mm_I (C : mCx p l s m args meth c cc nL own G A) (S : mW G A s M H locs) (hls : ls.size = nL) (hM : mMet l y (ws_ y bytes maxL none) Lc b1 G (.ref a :: As) M P X) (hcode : Cond.code y bytes maxL none ∈ lw_all) (hini : Cond.initialized y.cls ∈ lw_all) (hlk : Cond.methodLink own index y ∈ lw_all) (hinst : Cond.instanceMethod y ∈ lw_all) (hy1 : y.name = "<init>") (hd : mMd y n) (hR : mRo Lc b1 maxL R) (hn : As.length = n) (hst : st0 = As.reverse ++ .ref a :: rest) (hrm : (rest.map fun v => v.category).sum ≤ 8) (hdg : decode cc pc = .ok (.invokespecial index, 3)) (hR1 : R.cells = b) (hR2 : R.slots = b) (hk : k + r ≤ b) (hr1 : b1 + r1 = r)
    (kk : ∀ (v : Option Value) (M1 : mM) (H1 : Heap) (locs1 : List Loc), P v M1 → mW G A s M1 H1 locs1 → k + b1 + r1 ≤ b → W p l e R s m args below meth c H1 locs1 (k + b1) (k + b1) Q (F0 m (pc + 3) ls (v.toList ++ rest)))
    (kx : ∀ (E : String) (q : Nat) (ce : Cell) (M1 : mM) (H1 : Heap) (locs1 : List Loc), X E q M1 → mW G A s M1 H1 locs1 → k + b1 + r1 ≤ b → H1[q]? = some ce → ce.vm = .none → s.vm.findClass E = some ce.cls → vx_W p l e R s m args below meth c H1 locs1 (k + b1) (k + b1) Q (F0 m pc ls rest) q) : W p l e R s m args below meth c H locs k k Q (F0 m pc ls st0) := by
  subst hst
  exact mm_call C S (vx_runI C.fix (hM H.size) (cwI n C.ts (lw_meth hcode) rfl rfl rfl (C.ts _ hini) (C.ts _ hlk) (C.ts _ hinst) hy1 hd hR) ⟨mm_blind _ G M H.size, fun U hU hW => ⟨rfl, mm_pre C S hU hW⟩⟩ rfl hn hls rfl (by show 2 * 0 + _ ≤ 8; omega) hdg ⟨by rw [hR1]; omega, by rw [hR2]; omega⟩) hk hr1 kk kx
theorem mm_IN (C : mCx p l s m args meth c cc nL own G A) (S : mW G A s M H locs) (hls : ls.size = nL) (hM : mMet l y (ws_ y bytes maxL none) Lc b1 G (.ref a :: As) M P X) (hcode : Cond.code y bytes maxL none ∈ lw_all) (hini : Cond.initialized y.cls ∈ lw_all) {host : String} (hlk : Cond.methodLinkNest own index y host ∈ lw_tbl) (hinst : Cond.instanceMethod y ∈ lw_all) (hy1 : y.name = "<init>") (hd : mMd y n) (hR : mRo Lc b1 maxL R) (hn : As.length = n) (hst : st0 = As.reverse ++ .ref a :: rest) (hrm : (rest.map fun v => v.category).sum ≤ 8) (hdg : decode cc pc = .ok (.invokespecial index, 3)) (hR1 : R.cells = b) (hR2 : R.slots = b) (hk : k + r ≤ b) (hr1 : b1 + r1 = r)
    (kk : ∀ (v : Option Value) (M1 : mM) (H1 : Heap) (locs1 : List Loc), P v M1 → mW G A s M1 H1 locs1 → k + b1 + r1 ≤ b → W p l e R s m args below meth c H1 locs1 (k + b1) (k + b1) Q (F0 m (pc + 3) ls (v.toList ++ rest)))
    (kx : ∀ (E : String) (q : Nat) (ce : Cell) (M1 : mM) (H1 : Heap) (locs1 : List Loc), X E q M1 → mW G A s M1 H1 locs1 → k + b1 + r1 ≤ b → H1[q]? = some ce → ce.vm = .none → s.vm.findClass E = some ce.cls → vx_W p l e R s m args below meth c H1 locs1 (k + b1) (k + b1) Q (F0 m pc ls rest) q) : W p l e R s m args below meth c H locs k k Q (F0 m pc ls st0) := by
  subst hst
  exact mm_call C S (vx_runIN C.fix (hM H.size) ⟨va_cnB n C.ts (lw_meth hcode) rfl rfl rfl (C.nw hlk rfl) (C.ts _ hini) hd hR, hy1, C.ts _ hinst⟩ ⟨mm_blind _ G M H.size, fun U hU hW => ⟨rfl, mm_pre C S hU hW⟩⟩ rfl hn hls rfl (by show 2 * 0 + _ ≤ 8; omega) hdg ⟨by rw [hR1]; omega, by rw [hR2]; omega⟩) hk hr1 kk kx
theorem mm_VN (C : mCx p l s m args meth c cc nL own G A) (S : mW G A s M H locs) (hls : ls.size = nL) (hM : mMet l y (ws_ y bytes maxL ret) Lc b1 G (.ref a :: As) M P X) (hc : mCl[ci]? = some (Cn, T, N)) (hi : isc M a ci) (hcode : Cond.code y bytes maxL ret ∈ lw_all) (hini : Cond.initialized y.cls ∈ lw_all) {host : String} (hlk : Cond.methodLinkNest own index y host ∈ lw_tbl) (hinst : Cond.instanceMethod y ∈ lw_all) (hsel : Cond.selects Cn y y ∈ lw_all) (hd : mMd y n) (hR : mRo Lc b1 maxL R) (hn : As.length = n) (hst : st0 = As.reverse ++ .ref a :: rest) (hrm : (rest.map fun v => v.category).sum ≤ 8) (hdg : decode cc pc = .ok (.invokevirtual index, 3)) (hR1 : R.cells = b) (hR2 : R.slots = b) (hk : k + r ≤ b) (hr1 : b1 + r1 = r)
    (kk : ∀ (v : Option Value) (M1 : mM) (H1 : Heap) (locs1 : List Loc), P v M1 → mW G A s M1 H1 locs1 → k + b1 + r1 ≤ b → W p l e R s m args below meth c H1 locs1 (k + b1) (k + b1) Q (F0 m (pc + 3) ls (v.toList ++ rest)))
    (kx : ∀ (E : String) (q : Nat) (ce : Cell) (M1 : mM) (H1 : Heap) (locs1 : List Loc), X E q M1 → mW G A s M1 H1 locs1 → k + b1 + r1 ≤ b → H1[q]? = some ce → ce.vm = .none → s.vm.findClass E = some ce.cls → vx_W p l e R s m args below meth c H1 locs1 (k + b1) (k + b1) Q (F0 m pc ls rest) q) : W p l e R s m args below meth c H locs k k Q (F0 m pc ls st0) := by
  subst hst
  exact mm_call C S (vx_runVN C.fix (hM H.size) ⟨va_cnB n C.ts (lw_meth hcode) rfl rfl rfl (C.nw hlk rfl) (C.ts _ hini) hd hR, C.ts _ hinst, C.ts _ hsel⟩ ⟨mm_blind _ G M H.size, mm_recv C S hc hi, fun U hU hW => ⟨rfl, mm_pre C S hU hW⟩⟩ rfl hn hls rfl (by show 2 * 0 + _ ≤ 8; omega) hdg ⟨by rw [hR1]; omega, by rw [hR2]; omega⟩) hk hr1 kk kx
theorem mm_VP (C : mCx p l s m args meth c cc nL own G A) (S : mW G A s M H locs) (hls : ls.size = nL) (hM : mMet l y (ws_ y bytes maxL ret) Lc b1 G (.ref a :: As) M P X) (hc : mCl[ci]? = some (Cn, T, N)) (hi : isc M a ci) (hcode : Cond.code y bytes maxL ret ∈ lw_all) (hini : Cond.initialized y.cls ∈ lw_all) (hlk : Cond.methodLink own index y ∈ lw_all) (hinst : Cond.instanceMethod y ∈ lw_all) {x : MethodName} (hselx : Cond.selects Cn x x ∈ lw_all) (hxy : x.cls = y.cls) (hpv : Cond.privateMethod y ∈ lw_tbl) (hd : mMd y n) (hR : mRo Lc b1 maxL R) (hn : As.length = n) (hst : st0 = As.reverse ++ .ref a :: rest) (hrm : (rest.map fun v => v.category).sum ≤ 8) (hdg : decode cc pc = .ok (.invokevirtual index, 3)) (hR1 : R.cells = b) (hR2 : R.slots = b) (hk : k + r ≤ b) (hr1 : b1 + r1 = r)
    (kk : ∀ (v : Option Value) (M1 : mM) (H1 : Heap) (locs1 : List Loc), P v M1 → mW G A s M1 H1 locs1 → k + b1 + r1 ≤ b → W p l e R s m args below meth c H1 locs1 (k + b1) (k + b1) Q (F0 m (pc + 3) ls (v.toList ++ rest)))
    (kx : ∀ (E : String) (q : Nat) (ce : Cell) (M1 : mM) (H1 : Heap) (locs1 : List Loc), X E q M1 → mW G A s M1 H1 locs1 → k + b1 + r1 ≤ b → H1[q]? = some ce → ce.vm = .none → s.vm.findClass E = some ce.cls → vx_W p l e R s m args below meth c H1 locs1 (k + b1) (k + b1) Q (F0 m pc ls rest) q) : W p l e R s m args below meth c H locs k k Q (F0 m pc ls st0) := by
  subst hst
  have hsel : (Cond.selects Cn y y).before args s = true := by
    obtain ⟨cx, rx, mx, a1, a2, a3, a4, kx9, a5, a6⟩ := Cond.selects_spec (C.ts _ hselx)
    obtain ⟨mk, methM, hnamed, hmethM, -, -⟩ := Cond.instanceMethod_spec (C.ts _ hinst)
    have hfound : s.methodFound? y.cls y.name y.desc = some mk := State.methodFound?_of_named hnamed ⟨hd.1, hd.2.1⟩
    have hcls : mk.cls = mx.cls := Option.some.inj ((findClass_of_methodNamed hnamed).symm.trans ((congrArg s.vm.findClass hxy).symm.trans (findClass_of_methodNamed a3)))
    have hsl : selectMethod {} s.vm cx mk = .method mk := selectMethod_private hmethM (Cond.privateMethod_at (va_Nw.use (A := args) rfl (C.nw hpv rfl)) mk methM hnamed hmethM)
    simp only [Cond.before, Cond.holds, Cond.value, a1, hfound, hnamed, hsl, hcls, a5]
    simp [a6]
  exact mm_call C S (vx_runV C.fix (hM H.size) ⟨callB_of n C.ts (lw_meth hcode) rfl rfl rfl (C.ts _ hini) (C.ts _ hlk) hd hR, C.ts _ hinst, hsel⟩ ⟨mm_blind _ G M H.size, mm_recv C S hc hi, fun U hU hW => ⟨rfl, mm_pre C S hU hW⟩⟩ rfl hn hls rfl (by show 2 * 0 + _ ≤ 8; omega) hdg ⟨by rw [hR1]; omega, by rw [hR2]; omega⟩) hk hr1 kk kx
theorem mm_SN (C : mCx p l s m args meth c cc nL own G A) (S : mW G A s M H locs) (hls : ls.size = nL) (hM : mMet l y (ws_ y bytes maxL ret) Lc b1 G As M P X) (hcode : Cond.code y bytes maxL ret ∈ lw_all) (hini : Cond.initialized y.cls ∈ lw_all) {host : String} (hlk : Cond.methodLinkNest own index y host ∈ lw_tbl) (hstt : Cond.static y ∈ lw_all) (hd : mMd y n) (hR : mRo Lc b1 maxL R) (hn : As.length = n) (hst : st0 = As.reverse ++ rest) (hrm : (rest.map fun v => v.category).sum ≤ 8) (hdg : decode cc pc = .ok (.invokestatic index, 3)) (hR1 : R.cells = b) (hR2 : R.slots = b) (hk : k + r ≤ b) (hr1 : b1 + r1 = r)
    (kk : ∀ (v : Option Value) (M1 : mM) (H1 : Heap) (locs1 : List Loc), P v M1 → mW G A s M1 H1 locs1 → k + b1 + r1 ≤ b → W p l e R s m args below meth c H1 locs1 (k + b1) (k + b1) Q (F0 m (pc + 3) ls (v.toList ++ rest)))
    (kx : ∀ (E : String) (q : Nat) (ce : Cell) (M1 : mM) (H1 : Heap) (locs1 : List Loc), X E q M1 → mW G A s M1 H1 locs1 → k + b1 + r1 ≤ b → H1[q]? = some ce → ce.vm = .none → s.vm.findClass E = some ce.cls → vx_W p l e R s m args below meth c H1 locs1 (k + b1) (k + b1) Q (F0 m pc ls rest) q) : W p l e R s m args below meth c H locs k k Q (F0 m pc ls st0) := by
  subst hst
  exact mm_call C S (vx_runSN C.fix (hM H.size) ⟨va_cnB n C.ts (lw_meth hcode) rfl rfl rfl (C.nw hlk rfl) (C.ts _ hini) hd hR, C.ts _ hstt, trivial⟩ ⟨mm_blind _ G M H.size, fun U hU hW => ⟨rfl, mm_pre C S hU hW⟩⟩ rfl hn hls rfl (by show 2 * 0 + _ ≤ 8; omega) hdg ⟨by rw [hR1]; omega, by rw [hR2]; omega⟩) hk hr1 kk kx
/-- a method found by the receiver (inherited, or another's) -/
theorem mm_U (C : mCx p l s m args meth c cc nL own G A) (S : mW G A s M H locs) (hls : ls.size = nL) {x : MethodName} {owner : String} (hM : mMet l y (ws_ y bytes maxL ret) Lc b1 G (.ref a :: As) M P X) (hc : mCl[ci]? = some (Cn, T, N)) (hi : isc M a ci) (cw : va_CU R s args own Cn owner index x y bytes maxL ret (ws_ y bytes maxL ret) (mRm Lc b1) b1 b1 n) (hn : As.length = n) (hst : st0 = As.reverse ++ .ref a :: rest) (hrm : (rest.map fun v => v.category).sum ≤ 8) (hdg : decode cc pc = .ok (.invokevirtual index, 3)) (hR1 : R.cells = b) (hR2 : R.slots = b) (hk : k + r ≤ b) (hr1 : b1 + r1 = r)
    (kk : ∀ (v : Option Value) (M1 : mM) (H1 : Heap) (locs1 : List Loc), P v M1 → mW G A s M1 H1 locs1 → k + b1 + r1 ≤ b → W p l e R s m args below meth c H1 locs1 (k + b1) (k + b1) Q (F0 m (pc + 3) ls (v.toList ++ rest)))
    (kx : ∀ (E : String) (q : Nat) (ce : Cell) (M1 : mM) (H1 : Heap) (locs1 : List Loc), X E q M1 → mW G A s M1 H1 locs1 → k + b1 + r1 ≤ b → H1[q]? = some ce → ce.vm = .none → s.vm.findClass E = some ce.cls → vx_W p l e R s m args below meth c H1 locs1 (k + b1) (k + b1) Q (F0 m pc ls rest) q) : W p l e R s m args below meth c H locs k k Q (F0 m pc ls st0) := by
  subst hst
  exact mm_call C S (vx_runU C.fix (hM H.size) cw ⟨mm_blind _ G M H.size, mm_recv C S hc hi, fun U hU hW => ⟨rfl, mm_pre C S hU hW⟩⟩ rfl hn hls rfl (by show 2 * 0 + _ ≤ 8; omega) hdg ⟨by rw [hR1]; omega, by rw [hR2]; omega⟩) hk hr1 kk kx
/-- super.m(..) -/
theorem mm_SU (C : mCx p l s m args meth c cc nL own G A) (S : mW G A s M H locs) (hls : ls.size = nL) (hM : mMet l y (ws_ y bytes maxL ret) Lc b1 G (.ref a :: As) M P X) (hc : mCl[ci]? = some (Cn, T, N)) (hi : isc M a ci) (cw : va_CS R s args own index y bytes maxL ret (ws_ y bytes maxL ret) (mRm Lc b1) b1 b1 n) (hn : As.length = n) (hst : st0 = As.reverse ++ .ref a :: rest) (hrm : (rest.map fun v => v.category).sum ≤ 8) (hdg : decode cc pc = .ok (.invokespecial index, 3)) (hR1 : R.cells = b) (hR2 : R.slots = b) (hk : k + r ≤ b) (hr1 : b1 + r1 = r)
    (kk : ∀ (v : Option Value) (M1 : mM) (H1 : Heap) (locs1 : List Loc), P v M1 → mW G A s M1 H1 locs1 → k + b1 + r1 ≤ b → W p l e R s m args below meth c H1 locs1 (k + b1) (k + b1) Q (F0 m (pc + 3) ls (v.toList ++ rest)))
    (kx : ∀ (E : String) (q : Nat) (ce : Cell) (M1 : mM) (H1 : Heap) (locs1 : List Loc), X E q M1 → mW G A s M1 H1 locs1 → k + b1 + r1 ≤ b → H1[q]? = some ce → ce.vm = .none → s.vm.findClass E = some ce.cls → vx_W p l e R s m args below meth c H1 locs1 (k + b1) (k + b1) Q (F0 m pc ls rest) q) : W p l e R s m args below meth c H locs k k Q (F0 m pc ls st0) := by
  subst hst
  exact mm_call C S (vx_runSU (C.kt.1 ci _ hc).2 C.fix (hM H.size) cw ⟨mm_blind _ G M H.size, mm_recv C S hc hi, fun U hU hW => ⟨rfl, mm_pre C S hU hW⟩⟩ rfl hn hls rfl (by show 2 * 0 + _ ≤ 8; omega) hdg ⟨by rw [hR1]; omega, by rw [hR2]; omega⟩) hk hr1 kk kx
theorem mm_F (C : mCx p l s m args meth c cc nL own G A) (S : mW G A s M H locs) (hls : ls.size = nL) {x : MethodName} {count : Nat} (hM : mMet l y (ws_ y bytes maxL ret) Lc b1 G (.ref a :: As) M P X) (hc : mCl[ci]? = some (Cn, T, N)) (hi : isc M a ci) (hw : GoodIn lw_all (va_wsF own index Cn x y (ws_ y bytes maxL ret))) (hf : (Cn, x, y) ∈ mFl) (hd : mMd x n) (hR : mRo Lc b1 maxL R) (hn : As.length = n) (hst : st0 = As.reverse ++ .ref a :: rest) (hrm : (rest.map fun v => v.category).sum ≤ 8) (hdg : decode cc pc = .ok (.invokeinterface index count, 5)) (hR1 : R.cells = b) (hR2 : R.slots = b) (hk : k + r ≤ b) (hr1 : b1 + r1 = r)
    (kk : ∀ (v : Option Value) (M1 : mM) (H1 : Heap) (locs1 : List Loc), P v M1 → mW G A s M1 H1 locs1 → k + b1 + r1 ≤ b → W p l e R s m args below meth c H1 locs1 (k + b1) (k + b1) Q (F0 m (pc + 5) ls (v.toList ++ rest)))
    (kx : ∀ (E : String) (q : Nat) (ce : Cell) (M1 : mM) (H1 : Heap) (locs1 : List Loc), X E q M1 → mW G A s M1 H1 locs1 → k + b1 + r1 ≤ b → H1[q]? = some ce → ce.vm = .none → s.vm.findClass E = some ce.cls → vx_W p l e R s m args below meth c H1 locs1 (k + b1) (k + b1) Q (F0 m pc ls rest) q) : W p l e R s m args below meth c H locs k k Q (F0 m pc ls st0) := by
  subst hst
  exact mm_call5 C S (vx_runF (C.kt.1 ci _ hc).2 C.fix (hM H.size) (va_cwF n C.ts hw rfl rfl rfl (C.kt.2.2.2.1 _ hf) hd hR) ⟨mm_blind _ G M H.size, mm_recv C S hc hi, fun U hU hW => ⟨rfl, mm_pre C S hU hW⟩⟩ rfl hn hls rfl (by show 2 * 0 + _ ≤ 8; omega) hdg ⟨by rw [hR1]; omega, by rw [hR2]; omega⟩) hk hr1 kk kx
end CALLS
section ENDS
variable {k b : Nat} {X : String → Nat → mM → Prop}
theorem mm_iret (C : mCx p l s m args meth c cc nL own G A) (S : mW G A s M H locs) (hr : meth.sig.returnType = some .int) {P : Int32 → mM → Prop} {v : Int32} (hk : k ≤ b) (hdg : decode cc pc = .ok (.ireturn, 1)) (hP : P v M) : W p l e R s m args below meth c H locs k k (vx_MQ below (mQ G A (mRi P)) (mXC G A X) args s b b A) (F0 m pc ls [.int v]) :=
  vx_ret (W.widen hk hk (W.iret C.hx C.hb hr (fun t ht hW => ⟨⟨_, M, rfl, ⟨v, rfl, hP⟩, by rw [ht]; exact S.1, S.2.1⟩, S.2.2.F ht⟩) S.2.2.2.2 hdg C.hlk))
theorem mm_zret (C : mCx p l s m args meth c cc nL own G A) (S : mW G A s M H locs) {ty : FieldType} (hr : meth.sig.returnType = some ty) {P : Int32 → mM → Prop} {v : Int32} (hk : k ≤ b) (hdg : decode cc pc = .ok (.ireturn, 1)) (hP : narrow ty (.int v) = .int v ∧ P v M) : W p l e R s m args below meth c H locs k k (vx_MQ below (mQ G A (mRi P)) (mXC G A X) args s b b A) (F0 m pc ls [.int v]) :=
  vx_ret (W.widen hk hk (W.zret C.hx C.hb hr hP.1 (fun t ht hW => ⟨⟨_, M, rfl, ⟨v, rfl, hP.2⟩, by rw [ht]; exact S.1, S.2.1⟩, S.2.2.F ht⟩) S.2.2.2.2 hdg C.hlk))
theorem mm_vret (C : mCx p l s m args meth c cc nL own G A) (S : mW G A s M H locs) (hr : meth.sig.returnType = none) {P : mM → Prop} (hk : k ≤ b) (hdg : decode cc pc = .ok (.return_, 1)) (hP : P M) : W p l e R s m args below meth c H locs k k (vx_MQ below (mQ G A (mRv P)) (mXC G A X) args s b b A) (F0 m pc ls []) :=
  vx_ret (W.widen hk hk (W.vret C.hx C.hb hr (fun t ht hW => ⟨⟨_, M, rfl, ⟨rfl, hP⟩, by rw [ht]; exact S.1, S.2.1⟩, S.2.2.F ht⟩) S.2.2.2.2 hdg C.hlk))
theorem mm_aret (C : mCx p l s m args meth c cc nL own G A) (S : mW G A s M H locs) {rt : FieldType} (hr : meth.sig.returnType = some rt) (hrt : (∃ n, rt = .object n) ∨ ∃ t, rt = .array t) {P : Nat → mM → Prop} {v : Nat} (hk : k ≤ b) (hdg : decode cc pc = .ok (.areturn, 1)) (hP : P v M) : W p l e R s m args below meth c H locs k k (vx_MQ below (mQ G A (mRa P)) (mXC G A X) args s b b A) (F0 m pc ls [.ref v]) :=
  vx_ret (W.widen hk hk (W.aret C.hx C.hb hr hrt (Or.inr ⟨v, rfl⟩) (fun t ht hW => ⟨⟨_, M, rfl, ⟨v, rfl, hP⟩, by rw [ht]; exact S.1, S.2.1⟩, S.2.2.F ht⟩) S.2.2.2.2 hdg C.hlk))
theorem mm_lret (C : mCx p l s m args meth c cc nL own G A) (S : mW G A s M H locs) (hr : meth.sig.returnType = some .long) {P : Int64 → mM → Prop} {v : Int64} (hk : k ≤ b) (hdg : decode cc pc = .ok (.lreturn, 1)) (hP : P v M) : W p l e R s m args below meth c H locs k k (vx_MQ below (mQ G A (mRl P)) (mXC G A X) args s b b A) (F0 m pc ls [.long v]) :=
  vx_ret (W.widen hk hk (W.lret C.hx C.hb hr (fun t ht hW => ⟨⟨_, M, rfl, ⟨v, rfl, hP⟩, by rw [ht]; exact S.1, S.2.1⟩, S.2.2.F ht⟩) S.2.2.2.2 hdg C.hlk))
theorem mm_fret (C : mCx p l s m args meth c cc nL own G A) (S : mW G A s M H locs) (hr : meth.sig.returnType = some .float) {P : UInt32 → mM → Prop} {v : UInt32} (hk : k ≤ b) (hdg : decode cc pc = .ok (.freturn, 1)) (hP : P v M) : W p l e R s m args below meth c H locs k k (vx_MQ below (mQ G A (mRf P)) (mXC G A X) args s b b A) (F0 m pc ls [.float v]) :=
  vx_ret (W.widen hk hk (W.fret C.hx C.hb hr (fun t ht hW => ⟨⟨_, M, rfl, ⟨v, rfl, hP⟩, by rw [ht]; exact S.1, S.2.1⟩, S.2.2.F ht⟩) S.2.2.2.2 hdg C.hlk))
theorem mm_dret (C : mCx p l s m args meth c cc nL own G A) (S : mW G A s M H locs) (hr : meth.sig.returnType = some .double) {P : UInt64 → mM → Prop} {v : UInt64} (hk : k ≤ b) (hdg : decode cc pc = .ok (.dreturn, 1)) (hP : P v M) : W p l e R s m args below meth c H locs k k (vx_MQ below (mQ G A (mRd P)) (mXC G A X) args s b b A) (F0 m pc ls [.double v]) :=
  vx_ret (W.widen hk hk (W.dret C.hx C.hb hr (fun t ht hW => ⟨⟨_, M, rfl, ⟨v, rfl, hP⟩, by rw [ht]; exact S.1, S.2.1⟩, S.2.2.F ht⟩) S.2.2.2.2 hdg C.hlk))
/-- an exception that isn't caught here -/
theorem mm_out (C : mCx p l s m args meth c cc nL own G A) (S : mW G A s M H locs) {PP : Option Value → mM → Prop} (hout : ∀ x ∈ c.exceptionTable.toList, covers x pc = false) {E : String} {ce : Cell} {q : Nat} (hk : k ≤ b) (hcell : H[q]? = some ce) (hv : ce.vm = .none) (hcl : s.vm.findClass E = some ce.cls) (hX : X E q M) : vx_W p l e R s m args below meth c H locs k k (vx_MQ below (mQ G A PP) (mXC G A X) args s b b A) (F0 m pc ls rest) q :=
  vx_out hout C.hlk hcell hv hcl (fun t ht hW => ⟨⟨M, hX, by rw [ht]; exact S.1, S.2.1⟩, S.2.2.F ht⟩) S.2.2.2.2 hk hk
/-- an exception that is an object of the world -/
theorem mm_outM (C : mCx p l s m args meth c cc nL own G A) (S : mW G A s M H locs) {PP : Option Value → mM → Prop} (hout : ∀ x ∈ c.exceptionTable.toList, covers x pc = false) {ci : Nat} {Cn : String} {T : u_T} {N : Nat} (hc : mCl[ci]? = some (Cn, T, N)) {q : Nat} (hk : k ≤ b) (hdg : decode cc pc = .ok (.athrow, 1)) (hX : ist M q ci ∧ X Cn q M) : W p l e R s m args below meth c H locs k k (vx_MQ below (mQ G A PP) (mXC G A X) args s b b A) (F0 m pc ls (.ref q :: rest)) := by
  obtain ⟨⟨fs, hM⟩, hX⟩ := hX
  obtain ⟨cell, q1, q2, -, -, q5⟩ := S.obj hM hc
  have q3 := (q5 rfl).1
  exact vx_athrow C.hx C.hb hdg (mm_out C S hout hk q1 q3 (by rw [q2]; exact (C.kt.1 ci _ hc).2.1) hX)
theorem mm_atw (C : mCx p l s m args meth c cc nL own G A) {Lw : List Cond} (h : Lw.all (fun w => decide (w ∈ lw_tbl) && (goodWord w || mBk w)) = true) : ∀ w ∈ Lw, w.before args s = true := by
  intro w hw
  have h1 := List.all_eq_true.mp h w hw
  simp only [Bool.and_eq_true, decide_eq_true_eq, Bool.or_eq_true] at h1
  rcases h1.2 with hg | hb
  · exact C.ts _ (List.mem_filter.mpr ⟨h1.1, hg⟩)
  · exact va_Nw.use (mBk_tab hb) (C.nw h1.1 hb)
theorem mm_throw0 (C : mCx p l s m args meth c cc nL own G A) (S : mW G A s M H locs) {PP : Option Value → mM → Prop} (hls : ls.size = c.maxLocals) {cls : String} {names : List String} {ik ic : Nat} (hcls : Bundle.fit cls = true) (hnames : ∀ n ∈ names, Bundle.fit n = true) (hkl : Cond.classLink own ik cls ∈ lw_all) (hini : Cond.initialized cls ∈ lw_all) (hat : (vx_at0 own ic cls names).all (fun w => decide (w ∈ lw_tbl) && (goodWord w || mBk w)) = true) (hgood : ∀ w ∈ Cond.classLink own ik cls :: Cond.initialized cls :: vx_at0 own ic cls names, vx_ot w = true)
    (d0 : decode cc pc = .ok (.new ik, 3)) (d3 : decode cc (pc + 3) = .ok (.dup, 1)) (d4 : decode cc (pc + 4) = .ok (.invokespecial ic, 3)) (d7 : decode cc (pc + 7) = .ok (.athrow, 1)) (hout : ∀ x ∈ c.exceptionTable.toList, covers x (pc + 7) = false)
    (hRf : names.length + 3 < R.frames) (hRl : (rest.map fun v => v.category).sum + (13 * (names.length + 1) + 42) ≤ R.locals) {r : Nat} (hR1 : R.cells = b) (hR2 : R.slots = b) (hk : k + r ≤ b) (hX : 7 ≤ r ∧ ∀ q, X cls q M) : W p l e R s m args below meth c H locs k k (vx_MQ below (mQ G A PP) (mXC G A X) args s b b A) (F0 m pc ls rest) := by
  obtain ⟨hr, hX⟩ := hX
  refine vx_throw0 C.hx C.hb C.hst C.hown hcls hnames (C.ts _ hkl) (C.ts _ hini) (mm_atw C hat) hgood C.ks.2.2.2.2.1 C.ks.2.2.2.2.2.1 S.2.2 hls d0 d3 d4 d7 hout hRf hRl (by rw [hR1]; omega) (by rw [hR2]; omega) C.hlk (fun q9 t hW hz ho => ?_) S.2.2.2.2 (by omega) (by omega)
  refine ⟨⟨M, hX q9, fun a w e' hM => (S.1 a w e' hM).kept (ho a (S.1 a w e' hM).lt), S.2.1⟩, Nat.le_trans S.2.2.1 hz, fun x h1 h2 => ?_⟩
  exact (ho x (Nat.lt_of_lt_of_le h1 S.2.2.1)).trans (S.2.2.2.1 x h1 h2)
end ENDS
theorem mm_gets (C : mCx p l s m args meth c cc nL own G A) (S : mW G A s M H locs) {Cn n d ref : String} {v : Value} {index : Nat} (hZ : va_Z Cn n d v A s s.heap) (hlink : Cond.fieldLink own index ref n d ∈ lw_all) (hsame : ∀ x, s.fieldFound? Cn n d = some x → s.fieldFound? ref n d = some x) (hdg : decode cc pc = .ok (.getstatic index, 3)) (kk : W p l e R s m args below meth c H locs cells slots Q (F0 m (pc + 3) ls (v :: rest))) : W p l e R s m args below meth c H locs cells slots Q (F0 m pc ls rest) :=
  va_gets C.hx C.hb hZ S.2.2 C.hown (C.ts _ hlink) hsame hdg kk
theorem mm_getsQ (C : mCx p l s m args meth c cc nL own G A) (S : mW G A s M H locs) {Cn n d ref : String} {index : Nat} (hZ : vx_Zq Cn n d A s s.heap) (hlink : Cond.fieldLink own index ref n d ∈ lw_all) (hsame : ∀ x, s.fieldFound? Cn n d = some x → s.fieldFound? ref n d = some x) (hdg : decode cc pc = .ok (.getstatic index, 3)) {K : Option Nat → Prop} (h : ∀ o, K o) (kk : ∀ o, K o → W p l e R s m args below meth c H locs cells slots Q (F0 m (pc + 3) ls (va_rf o :: rest))) : W p l e R s m args below meth c H locs cells slots Q (F0 m pc ls rest) := by
  rcases hZ.1 with hz | ⟨t, hz⟩
  · exact va_gets C.hx C.hb hz S.2.2 C.hown (C.ts _ hlink) hsame hdg (kk none (h _))
  · exact va_gets C.hx C.hb hz S.2.2 C.hown (C.ts _ hlink) hsame hdg (kk (some t) (h _))
theorem mm_ldcS (C : mCx p l s m args meth c cc nL own G A) {tx : String} {index q : Nat} (hZ : vk_R own index tx q s) (hdg : decode cc pc = .ok (.ldc index, 2)) (kk : W p l e R s m args below meth c H locs cells slots Q (F0 m (pc + 2) ls (.ref q :: rest))) : W p l e R s m args below meth c H locs cells slots Q (F0 m pc ls rest) := va_ldcS C.hx C.hb C.hown hZ hdg kk
/-- a cast to the object's own class -/
theorem mm_castS (C : mCx p l s m args meth c cc nL own G A) (S : mW G A s M H locs) {ci : Nat} {Cn nm : String} {T : u_T} {N index : Nat} (hc : mCl[ci]? = some (Cn, T, N)) (hnm : Cn = nm) (hlink : Cond.classLink own index nm ∈ lw_all) (hi : isc M a ci) (hdg : decode cc pc = .ok (.checkcast index, 3)) (kk : W p l e R s m args below meth c H locs cells slots Q (F0 m (pc + 3) ls (.ref a :: rest))) : W p l e R s m args below meth c H locs cells slots Q (F0 m pc ls (.ref a :: rest)) := by
  subst hnm
  exact va_castS C.hx C.hb C.hown (C.ts _ hlink) (C.kt.1 ci _ hc).2 (mm_recv C S hc hi) hdg kk
/-- a cast to a class above -/
theorem mm_castY (C : mCx p l s m args meth c cc nL own G A) (S : mW G A s M H locs) {ci : Nat} {Cn nm : String} {T : u_T} {N index : Nat} (hc : mCl[ci]? = some (Cn, T, N)) (hlink : Cond.classLink own index nm ∈ lw_all) (hcast : Cond.castable Cn nm ∈ lw_tbl) (hi : isc M a ci) (hdg : decode cc pc = .ok (.checkcast index, 3)) (kk : W p l e R s m args below meth c H locs cells slots Q (F0 m (pc + 3) ls (.ref a :: rest))) : W p l e R s m args below meth c H locs cells slots Q (F0 m pc ls (.ref a :: rest)) :=
  va_castY C.hx C.hb C.hown (C.ts _ hlink) (C.nw hcast rfl) (mm_recv C S hc hi) hdg kk
theorem mm_instY (C : mCx p l s m args meth c cc nL own G A) (S : mW G A s M H locs) {ci : Nat} {Cn nm : String} {T : u_T} {N index : Nat} (hc : mCl[ci]? = some (Cn, T, N)) (hlink : Cond.classLink own index nm ∈ lw_all) (hcast : Cond.castable Cn nm ∈ lw_tbl) (hi : isc M a ci) (hdg : decode cc pc = .ok (.instanceof index, 3)) (kk : W p l e R s m args below meth c H locs cells slots Q (F0 m (pc + 3) ls (.int 1 :: rest))) : W p l e R s m args below meth c H locs cells slots Q (F0 m pc ls (.ref a :: rest)) :=
  va_instY C.hx C.hb C.hown (C.ts _ hlink) (C.nw hcast rfl) (mm_recv C S hc hi) hdg kk
theorem mm_instN (C : mCx p l s m args meth c cc nL own G A) (S : mW G A s M H locs) {ci : Nat} {Cn nm : String} {T : u_T} {N index : Nat} (hc : mCl[ci]? = some (Cn, T, N)) (hlink : Cond.classLink own index nm ∈ lw_all) (hnc : (Cn, nm) ∈ mNcl) (hi : isc M a ci) (hdg : decode cc pc = .ok (.instanceof index, 3)) (kk : W p l e R s m args below meth c H locs cells slots Q (F0 m (pc + 3) ls (.int 0 :: rest))) : W p l e R s m args below meth c H locs cells slots Q (F0 m pc ls (.ref a :: rest)) :=
  va_instNo C.hx C.hb C.hown (C.ts _ hlink) (C.kt.2.2.2.2.2.1 _ hnc) (mm_recv C S hc hi) hdg kk
/-- the class of what goes into an Object[] -/
theorem mm_anyObj (C : mCx p l s m args meth c cc nL own G A) {ci : Nat} {r : vw_C} (hc : mCl[ci]? = some r) (hcast : Cond.castable r.1 "java/lang/Object" ∈ lw_tbl) {comp : ClassId} (hcomp : s.vm.findClass "java/lang/Object" = some comp) : s.vm.assignable (G.1.1 ci) comp = true :=
  vb_asgC (C.nw hcast rfl) comp _ hcomp (C.kt.1 ci r hc).2.1
theorem mm_sameObj (C : mCx p l s m args meth c cc nL own G A) {ci : Nat} {r : vw_C} (hc : mCl[ci]? = some r) {comp : ClassId} (hcomp : s.vm.findClass r.1 = some comp) : s.vm.assignable (G.1.1 ci) comp = true :=
  vb_asgS comp _ hcomp (C.kt.1 ci r hc).2.1
theorem mm_init (C : mCx p l s m args meth c cc nL own G A) (hls : ls.size = nL) {index : Nat} (hlink : Cond.methodLink own index Lib.objectInit ∈ lw_all) (hinst : Cond.instanceMethod Lib.objectInit ∈ lw_all) (hcode : Cond.code Lib.objectInit ⟨#[0xb1]⟩ 1 none ∈ lw_all) (hdg : decode cc pc = .ok (.invokespecial index, 3)) (hRf : 1 ≤ R.frames) (hRl : (rest.map fun v => v.category).sum + 12 ≤ R.locals) (kk : W p l e R s m args below meth c H locs cells slots Q (F0 m (pc + 3) ls rest)) : W p l e R s m args below meth c H locs cells slots Q (F0 m pc ls (.ref a :: rest)) :=
  W.objInit C.hx C.hb C.hown (C.ts _ hlink) (C.ts _ hinst) (C.ts _ hcode) rfl (hls.trans C.hml.symm) rfl hdg hRf (by show 2 * 0 + _ + 12 ≤ _; omega) kk
section MATH
variable {index : Nat}
theorem mm_max (C : mCx p l s m args meth c cc nL own G A) (hls : ls.size = nL) (hlink : Cond.methodLink own index Lib.Math.max.name ∈ lw_all) (hst : Cond.static Lib.Math.max.name ∈ lw_all) (hini : Cond.initialized "java/lang/Math" ∈ lw_all) (hcode : Cond.code Lib.Math.max.name Lib.Math.max.code 2 (some .int) ∈ lw_all) (hRf : 1 ≤ R.frames) (hRl : (rest.map fun v => v.category).sum + 13 ≤ R.locals) (hc : cells ≤ R.cells) (hs : slots ≤ R.slots) {x y : Int32} (hdg : decode cc pc = .ok (.invokestatic index, 3)) (kk : W p l e R s m args below meth c H locs cells slots Q (F0 m (pc + 3) ls (.int (if x < y then y else x) :: rest))) : W p l e R s m args below meth c H locs cells slots Q (F0 m pc ls (.int y :: .int x :: rest)) :=
  va_mmax C.hx C.hb (C.hml.trans hls.symm) C.hown (C.ts _ hlink) (C.ts _ hst) (C.ts _ hini) (C.ts _ hcode) hRf hRl hc hs hdg kk
theorem mm_min (C : mCx p l s m args meth c cc nL own G A) (hls : ls.size = nL) (hlink : Cond.methodLink own index Lib.Math.min.name ∈ lw_all) (hst : Cond.static Lib.Math.min.name ∈ lw_all) (hini : Cond.initialized "java/lang/Math" ∈ lw_all) (hcode : Cond.code Lib.Math.min.name Lib.Math.min.code 2 (some .int) ∈ lw_all) (hRf : 1 ≤ R.frames) (hRl : (rest.map fun v => v.category).sum + 13 ≤ R.locals) (hc : cells ≤ R.cells) (hs : slots ≤ R.slots) {x y : Int32} (hdg : decode cc pc = .ok (.invokestatic index, 3)) (kk : W p l e R s m args below meth c H locs cells slots Q (F0 m (pc + 3) ls (.int (if y < x then y else x) :: rest))) : W p l e R s m args below meth c H locs cells slots Q (F0 m pc ls (.int y :: .int x :: rest)) :=
  va_mmin C.hx C.hb (C.hml.trans hls.symm) C.hown (C.ts _ hlink) (C.ts _ hst) (C.ts _ hini) (C.ts _ hcode) hRf hRl hc hs hdg kk
theorem mm_abs (C : mCx p l s m args meth c cc nL own G A) (hls : ls.size = nL) (hlink : Cond.methodLink own index Lib.Math.abs.name ∈ lw_all) (hst : Cond.static Lib.Math.abs.name ∈ lw_all) (hini : Cond.initialized "java/lang/Math" ∈ lw_all) (hcode : Cond.code Lib.Math.abs.name Lib.Math.abs.code 1 (some .int) ∈ lw_all) (hRf : 1 ≤ R.frames) (hRl : (rest.map fun v => v.category).sum + 13 ≤ R.locals) (hc : cells ≤ R.cells) (hs : slots ≤ R.slots) {x : Int32} (hdg : decode cc pc = .ok (.invokestatic index, 3)) (kk : W p l e R s m args below meth c H locs cells slots Q (F0 m (pc + 3) ls (.int (if 0 ≤ x then x else 0 - x) :: rest))) : W p l e R s m args below meth c H locs cells slots Q (F0 m pc ls (.int x :: rest)) :=
  va_mabs C.hx C.hb (C.hml.trans hls.symm) C.hown (C.ts _ hlink) (C.ts _ hst) (C.ts _ hini) (C.ts _ hcode) hRf hRl hc hs hdg kk
theorem mm_maxl (C : mCx p l s m args meth c cc nL own G A) (hls : ls.size = nL) (hlink : Cond.methodLink own index Lib.MathLoose.max_long.x ∈ lw_all) (hst : Cond.static Lib.MathLoose.max_long.x ∈ lw_all) (hini : Cond.initialized "java/lang/Math" ∈ lw_all) (hcode : Cond.code Lib.MathLoose.max_long.x Lib.MathLoose.max_long.code 4 (some .long) ∈ lw_all) (hRf : 1 ≤ R.frames) (hRl : (rest.map fun v => v.category).sum + 15 ≤ R.locals) (hc : cells ≤ R.cells) (hs : slots ≤ R.slots) {x y : Int64} (hdg : decode cc pc = .ok (.invokestatic index, 3)) (kk : W p l e R s m args below meth c H locs cells slots Q (F0 m (pc + 3) ls (.long (if y < x then x else y) :: rest))) : W p l e R s m args below meth c H locs cells slots Q (F0 m pc ls (.long y :: .long x :: rest)) :=
  va_mmax_long C.hx C.hb (C.hml.trans hls.symm) C.hown (C.ts _ hlink) (C.ts _ hst) (C.ts _ hini) (C.ts _ hcode) hRf hRl hc hs hdg kk
theorem mm_minl (C : mCx p l s m args meth c cc nL own G A) (hls : ls.size = nL) (hlink : Cond.methodLink own index Lib.MathLoose.min_long.x ∈ lw_all) (hst : Cond.static Lib.MathLoose.min_long.x ∈ lw_all) (hini : Cond.initialized "java/lang/Math" ∈ lw_all) (hcode : Cond.code Lib.MathLoose.min_long.x Lib.MathLoose.min_long.code 4 (some .long) ∈ lw_all) (hRf : 1 ≤ R.frames) (hRl : (rest.map fun v => v.category).sum + 15 ≤ R.locals) (hc : cells ≤ R.cells) (hs : slots ≤ R.slots) {x y : Int64} (hdg : decode cc pc = .ok (.invokestatic index, 3)) (kk : W p l e R s m args below meth c H locs cells slots Q (F0 m (pc + 3) ls (.long (if y < x then y else x) :: rest))) : W p l e R s m args below meth c H locs cells slots Q (F0 m pc ls (.long y :: .long x :: rest)) :=
  va_mmin_long C.hx C.hb (C.hml.trans hls.symm) C.hown (C.ts _ hlink) (C.ts _ hst) (C.ts _ hini) (C.ts _ hcode) hRf hRl hc hs hdg kk
end MATH
/-- at a method's entry -/
theorem mm_enter {y : MethodName} {S0 : Spec} {maxL sz : Nat} {ret : Option FieldType} {s₁ : State} {av : List Value} (hl : l.stackTraces = false) (B : BodyLoose p l y S0 cc maxL ret e s m args below meth c s₁) (hml : c.maxLocals = maxL) (hpre : S0.pre.before args s = true → ∀ w ∈ lw_all, w.before args s = true) (hy : y.cls = own) (hv : va_Pc av (mPre G M sz) args s) : args = av.toArray ∧ sz = s.heap.size ∧ mCx p l s m args meth c cc maxL own G (mA M s.heap.size) ∧ mW G (mA M s.heap.size) s M s.heap [] := by
  obtain ⟨rfl, hsz, hP, hT, hS⟩ := hv
  subst hsz
  subst hy
  exact ⟨rfl, rfl, ⟨B.exec, B.bytes, hml, findClass_of_methodNamed B.named, hpre B.pre, B.notSynchronized, hT, hS, fun q h => Or.inr h, hl⟩, hP, fun q e h => Or.inl ⟨e, h⟩, va_S.rf⟩
section PFS
variable {ci k : Nat} {Cn host ref : String} {T : u_T} {N index : Nat} {ty0 : Nat → FieldType}
theorem mm_pfi (C : mCx p l s m args meth c cc nL own G A) (S : mW G A s M H locs) (hc : mCl[ci]? = some (Cn, T, N)) (hin : ∀ w ∈ u_ws Cn T N, w ∈ lw_all) (hty : ∀ k, k < N → parseFieldDescriptor (T k).2.2.1 = some (ty0 k)) (hnm : ∀ a, a < N → ∀ b, b < N → a ≠ b → (T a).2.1 ≠ (T b).2.1) (hk : k < N) (hlink : Cond.fieldLink own index ref (T k).2.1 (T k).2.2.1 ∈ lw_all) (hsame : ∀ x, s.fieldFound? (T k).1 (T k).2.1 (T k).2.2.1 = some x → s.fieldFound? ref (T k).2.1 (T k).2.2.1 = some x) (hfin : (T k).2.2.2 = false) (hdg : decode cc pc = .ok (.putfield index, 3)) (ht : ty0 k = .int) {v : Int32} {K : mM → Prop} (h : pfi M a ci k v K) (kk : ∀ (M1 : mM) (H1 : Heap) (locs1 : List Loc), K M1 → mW G A s M1 H1 locs1 → W p l e R s m args below meth c H1 locs1 cells slots Q (F0 m (pc + 3) ls rest)) : W p l e R s m args below meth c H locs cells slots Q (F0 m pc ls (.int v :: .ref a :: rest)) := by
  obtain ⟨fs, h1, h2, h3⟩ := h
  exact mm_pf C S hc hin hty hnm hk hlink hsame hfin hdg (by rw [ht]; rfl) (by rw [ht]; rfl) h1 h2 fun H1 locs1 S1 => kk _ H1 locs1 h3 S1
theorem mm_pfiN (C : mCx p l s m args meth c cc nL own G A) (S : mW G A s M H locs) (hc : mCl[ci]? = some (Cn, T, N)) (hin : ∀ w ∈ u_ws Cn T N, w ∈ lw_all) (hty : ∀ k, k < N → parseFieldDescriptor (T k).2.2.1 = some (ty0 k)) (hnm : ∀ a, a < N → ∀ b, b < N → a ≠ b → (T a).2.1 ≠ (T b).2.1) (hk : k < N) (hlink : Cond.fieldLinkNest own index ref (T k).2.1 (T k).2.2.1 host ∈ lw_tbl) (hsame : ∀ x, s.fieldFound? (T k).1 (T k).2.1 (T k).2.2.1 = some x → s.fieldFound? ref (T k).2.1 (T k).2.2.1 = some x) (hfin : (T k).2.2.2 = false) (hdg : decode cc pc = .ok (.putfield index, 3)) (ht : ty0 k = .int) {v : Int32} {K : mM → Prop} (h : pfi M a ci k v K) (kk : ∀ (M1 : mM) (H1 : Heap) (locs1 : List Loc), K M1 → mW G A s M1 H1 locs1 → W p l e R s m args below meth c H1 locs1 cells slots Q (F0 m (pc + 3) ls rest)) : W p l e R s m args below meth c H locs cells slots Q (F0 m pc ls (.int v :: .ref a :: rest)) := by
  obtain ⟨fs, h1, h2, h3⟩ := h
  exact mm_pfN C S hc hin hty hnm hk hlink hsame hfin hdg (by rw [ht]; rfl) (by rw [ht]; rfl) h1 h2 fun H1 locs1 S1 => kk _ H1 locs1 h3 S1
theorem mm_pfiF (C : mCx p l s m args meth c cc nL own G A) (S : mW G A s M H locs) (hc : mCl[ci]? = some (Cn, T, N)) (hin : ∀ w ∈ u_ws Cn T N, w ∈ lw_all) (hty : ∀ k, k < N → parseFieldDescriptor (T k).2.2.1 = some (ty0 k)) (hnm : ∀ a, a < N → ∀ b, b < N → a ≠ b → (T a).2.1 ≠ (T b).2.1) (hk : k < N) (hlink : Cond.fieldLink own index ref (T k).2.1 (T k).2.2.1 ∈ lw_all) (hsame : ∀ x, s.fieldFound? (T k).1 (T k).2.1 (T k).2.2.1 = some x → s.fieldFound? ref (T k).2.1 (T k).2.2.1 = some x) (hfin : (T k).2.2.2 = true) (hin2 : meth.name = "<init>") (hdecl : (T k).1 = own) (hdg : decode cc pc = .ok (.putfield index, 3)) (ht : ty0 k = .int) {v : Int32} {K : mM → Prop} (h : pfi M a ci k v K) (kk : ∀ (M1 : mM) (H1 : Heap) (locs1 : List Loc), K M1 → mW G A s M1 H1 locs1 → W p l e R s m args below meth c H1 locs1 cells slots Q (F0 m (pc + 3) ls rest)) : W p l e R s m args below meth c H locs cells slots Q (F0 m pc ls (.int v :: .ref a :: rest)) := by
  obtain ⟨fs, h1, h2, h3⟩ := h
  exact mm_pfF C S hc hin hty hnm hk hlink hsame hfin hin2 hdecl hdg (by rw [ht]; rfl) (by rw [ht]; rfl) h1 h2 fun H1 locs1 S1 => kk _ H1 locs1 h3 S1
theorem mm_pfn (C : mCx p l s m args meth c cc nL own G A) (S : mW G A s M H locs) (hc : mCl[ci]? = some (Cn, T, N)) (hin : ∀ w ∈ u_ws Cn T N, w ∈ lw_all) (hty : ∀ k, k < N → parseFieldDescriptor (T k).2.2.1 = some (ty0 k)) (hnm : ∀ a, a < N → ∀ b, b < N → a ≠ b → (T a).2.1 ≠ (T b).2.1) (hk : k < N) (hlink : Cond.fieldLink own index ref (T k).2.1 (T k).2.2.1 ∈ lw_all) (hsame : ∀ x, s.fieldFound? (T k).1 (T k).2.1 (T k).2.2.1 = some x → s.fieldFound? ref (T k).2.1 (T k).2.2.1 = some x) (hfin : (T k).2.2.2 = false) (hdg : decode cc pc = .ok (.putfield index, 3)) {ty : FieldType} (ht : ty0 k = ty) {v : Int32} {K : mM → Prop} (h : pfn M a ci k ty v K) (kk : ∀ (M1 : mM) (H1 : Heap) (locs1 : List Loc), K M1 → mW G A s M1 H1 locs1 → W p l e R s m args below meth c H1 locs1 cells slots Q (F0 m (pc + 3) ls rest)) : W p l e R s m args below meth c H locs cells slots Q (F0 m pc ls (.int v :: .ref a :: rest)) := by
  obtain ⟨fs, h1, h2, h3, h4⟩ := h
  exact mm_pf C S hc hin hty hnm hk hlink hsame hfin hdg (by rw [ht]; exact h3.1) (by rw [ht]; exact h3.2) h1 h2 fun H1 locs1 S1 => kk _ H1 locs1 h4 S1
theorem mm_pfnN (C : mCx p l s m args meth c cc nL own G A) (S : mW G A s M H locs) (hc : mCl[ci]? = some (Cn, T, N)) (hin : ∀ w ∈ u_ws Cn T N, w ∈ lw_all) (hty : ∀ k, k < N → parseFieldDescriptor (T k).2.2.1 = some (ty0 k)) (hnm : ∀ a, a < N → ∀ b, b < N → a ≠ b → (T a).2.1 ≠ (T b).2.1) (hk : k < N) (hlink : Cond.fieldLinkNest own index ref (T k).2.1 (T k).2.2.1 host ∈ lw_tbl) (hsame : ∀ x, s.fieldFound? (T k).1 (T k).2.1 (T k).2.2.1 = some x → s.fieldFound? ref (T k).2.1 (T k).2.2.1 = some x) (hfin : (T k).2.2.2 = false) (hdg : decode cc pc = .ok (.putfield index, 3)) {ty : FieldType} (ht : ty0 k = ty) {v : Int32} {K : mM → Prop} (h : pfn M a ci k ty v K) (kk : ∀ (M1 : mM) (H1 : Heap) (locs1 : List Loc), K M1 → mW G A s M1 H1 locs1 → W p l e R s m args below meth c H1 locs1 cells slots Q (F0 m (pc + 3) ls rest)) : W p l e R s m args below meth c H locs cells slots Q (F0 m pc ls (.int v :: .ref a :: rest)) := by
  obtain ⟨fs, h1, h2, h3, h4⟩ := h
  exact mm_pfN C S hc hin hty hnm hk hlink hsame hfin hdg (by rw [ht]; exact h3.1) (by rw [ht]; exact h3.2) h1 h2 fun H1 locs1 S1 => kk _ H1 locs1 h4 S1
theorem mm_pfnF (C : mCx p l s m args meth c cc nL own G A) (S : mW G A s M H locs) (hc : mCl[ci]? = some (Cn, T, N)) (hin : ∀ w ∈ u_ws Cn T N, w ∈ lw_all) (hty : ∀ k, k < N → parseFieldDescriptor (T k).2.2.1 = some (ty0 k)) (hnm : ∀ a, a < N → ∀ b, b < N → a ≠ b → (T a).2.1 ≠ (T b).2.1) (hk : k < N) (hlink : Cond.fieldLink own index ref (T k).2.1 (T k).2.2.1 ∈ lw_all) (hsame : ∀ x, s.fieldFound? (T k).1 (T k).2.1 (T k).2.2.1 = some x → s.fieldFound? ref (T k).2.1 (T k).2.2.1 = some x) (hfin : (T k).2.2.2 = true) (hin2 : meth.name = "<init>") (hdecl : (T k).1 = own) (hdg : decode cc pc = .ok (.putfield index, 3)) {ty : FieldType} (ht : ty0 k = ty) {v : Int32} {K : mM → Prop} (h : pfn M a ci k ty v K) (kk : ∀ (M1 : mM) (H1 : Heap) (locs1 : List Loc), K M1 → mW G A s M1 H1 locs1 → W p l e R s m args below meth c H1 locs1 cells slots Q (F0 m (pc + 3) ls rest)) : W p l e R s m args below meth c H locs cells slots Q (F0 m pc ls (.int v :: .ref a :: rest)) := by
  obtain ⟨fs, h1, h2, h3, h4⟩ := h
  exact mm_pfF C S hc hin hty hnm hk hlink hsame hfin hin2 hdecl hdg (by rw [ht]; exact h3.1) (by rw [ht]; exact h3.2) h1 h2 fun H1 locs1 S1 => kk _ H1 locs1 h4 S1
theorem mNarR {ty : FieldType} (hty : ty.isReference = true) (o : Option Nat) : narrow ty (va_rf o) = va_rf o ∧ fits ty (va_rf o) = true := by
  cases ty <;> first | (exact absurd hty (by decide)) | (cases o <;> exact ⟨rfl, rfl⟩)
theorem mm_pfq (C : mCx p l s m args meth c cc nL own G A) (S : mW G A s M H locs) (hc : mCl[ci]? = some (Cn, T, N)) (hin : ∀ w ∈ u_ws Cn T N, w ∈ lw_all) (hty : ∀ k, k < N → parseFieldDescriptor (T k).2.2.1 = some (ty0 k)) (hnm : ∀ a, a < N → ∀ b, b < N → a ≠ b → (T a).2.1 ≠ (T b).2.1) (hk : k < N) (hlink : Cond.fieldLink own index ref (T k).2.1 (T k).2.2.1 ∈ lw_all) (hsame : ∀ x, s.fieldFound? (T k).1 (T k).2.1 (T k).2.2.1 = some x → s.fieldFound? ref (T k).2.1 (T k).2.2.1 = some x) (hfin : (T k).2.2.2 = false) (hdg : decode cc pc = .ok (.putfield index, 3)) (ht : (ty0 k).isReference = true) {v : Option Nat} {K : mM → Prop} (h : pfq M a ci k v K) (kk : ∀ (M1 : mM) (H1 : Heap) (locs1 : List Loc), K M1 → mW G A s M1 H1 locs1 → W p l e R s m args below meth c H1 locs1 cells slots Q (F0 m (pc + 3) ls rest)) : W p l e R s m args below meth c H locs cells slots Q (F0 m pc ls (va_rf v :: .ref a :: rest)) := by
  obtain ⟨fs, h1, h2, h3⟩ := h
  exact mm_pf C S hc hin hty hnm hk hlink hsame hfin hdg (mNarR ht v).1 (mNarR ht v).2 h1 h2 fun H1 locs1 S1 => kk _ H1 locs1 h3 S1
theorem mm_pfqF (C : mCx p l s m args meth c cc nL own G A) (S : mW G A s M H locs) (hc : mCl[ci]? = some (Cn, T, N)) (hin : ∀ w ∈ u_ws Cn T N, w ∈ lw_all) (hty : ∀ k, k < N → parseFieldDescriptor (T k).2.2.1 = some (ty0 k)) (hnm : ∀ a, a < N → ∀ b, b < N → a ≠ b → (T a).2.1 ≠ (T b).2.1) (hk : k < N) (hlink : Cond.fieldLink own index ref (T k).2.1 (T k).2.2.1 ∈ lw_all) (hsame : ∀ x, s.fieldFound? (T k).1 (T k).2.1 (T k).2.2.1 = some x → s.fieldFound? ref (T k).2.1 (T k).2.2.1 = some x) (hfin : (T k).2.2.2 = true) (hin2 : meth.name = "<init>") (hdecl : (T k).1 = own) (hdg : decode cc pc = .ok (.putfield index, 3)) (ht : (ty0 k).isReference = true) {v : Option Nat} {K : mM → Prop} (h : pfq M a ci k v K) (kk : ∀ (M1 : mM) (H1 : Heap) (locs1 : List Loc), K M1 → mW G A s M1 H1 locs1 → W p l e R s m args below meth c H1 locs1 cells slots Q (F0 m (pc + 3) ls rest)) : W p l e R s m args below meth c H locs cells slots Q (F0 m pc ls (va_rf v :: .ref a :: rest)) := by
  obtain ⟨fs, h1, h2, h3⟩ := h
  exact mm_pfF C S hc hin hty hnm hk hlink hsame hfin hin2 hdecl hdg (mNarR ht v).1 (mNarR ht v).2 h1 h2 fun H1 locs1 S1 => kk _ H1 locs1 h3 S1
end PFS
/-- a method's contract out of its walk -/
theorem mm_met {y : MethodName} {maxL L b : Nat} {ret : Option FieldType} {av : List Value} {PP : Option Value → mM → Prop} {X : String → Nat → mM → Prop} (hl : l.stackTraces = false) (hy : plainName y.cls = true) (hlen : (lg_sl av).length ≤ maxL)
    (body : ∀ (p : Program) (e : Env) (s : State) (m : MethodId) (args : Array Value) (below : List Frame) (meth : Method) (c : Code) (ls : Array Slot), mCx p l s m args meth c cc maxL y.cls G (mA M s.heap.size) → meth.sig.returnType = ret → (∀ x ∈ c.exceptionTable.toList, False) → meth.name = y.name → lv_has ls maxL (lv_args 0 av) → mW G (mA M s.heap.size) s M s.heap [] →
      W p l e (mRm L b) s m args below meth c s.heap [] 0 0 (vx_MQ below (mQ G (mA M s.heap.size) PP) (mXC G (mA M s.heap.size) X) args s b b (mA M s.heap.size)) (F0 m 0 ls [])) : mMet l y (ws_ y cc maxL ret) L b G av M PP X := by
  intro sz
  refine vx_ofW (cc := cc) (maxL := maxL) (ret := ret) hy rfl ?_
  intro p e s m args below meth c s₁ B hml hnt hv
  have hpre : (headSpec (ws_ y cc maxL ret) (mRm L b)).pre.before args s = true → ∀ w ∈ lw_all, w.before args s = true := fun h w hw => atoms_spec (ws := ws_ y cc maxL ret) h w (List.mem_cons_of_mem _ hw)
  obtain ⟨ha, hsz, C, S⟩ := mm_enter hl B hml hpre rfl hv
  subst ha
  subst hsz
  have hls := lv_entry av hlen
  rw [lg_entry_eq]
  exact body p e s m _ below meth c _ C B.returns hnt (name_of_methodNamed B.named B.method).1 hls S
theorem lv_size {ls : Array Slot} {nL : Nat} {l : List (Nat × Value)} (h : lv_has ls nL l) : ls.size = nL := h.1
theorem mWsU {own Cn owner : String} {idx : Nat} {x y : MethodName} {ws : List Cond} (h1 : Cond.methodLink own idx x ∈ lw_all) (h2 : Cond.sameMethod x.cls owner x.name x.desc ∈ lw_all) (h3 : Cond.selects Cn x y ∈ lw_all) (h4 : Cond.instanceMethod y ∈ lw_all) (h5 : Cond.initialized y.cls ∈ lw_all) (h : GoodIn lw_all ws) : GoodIn lw_all (va_wsU own idx Cn owner x y ws) := by
  refine lw_app ?_ h
  intro w hw
  simp only [List.mem_cons, List.not_mem_nil, or_false] at hw
  rcases hw with e | e | e | e | e <;> rw [e] <;> assumption
theorem mWsF {own Cn : String} {idx : Nat} {x y : MethodName} {ws : List Cond} (h1 : Cond.methodLink own idx x ∈ lw_all) (h2 : Cond.selects Cn x y ∈ lw_all) (h3 : Cond.instanceMethod y ∈ lw_all) (h4 : Cond.initialized y.cls ∈ lw_all) (h : GoodIn lw_all ws) : GoodIn lw_all (va_wsF own idx Cn x y ws) := by
  refine lw_app ?_ h
  intro w hw
  simp only [List.mem_cons, List.not_mem_nil, or_false] at hw
  rcases hw with e | e | e | e <;> rw [e] <;> assumption
theorem mWsSU {own : String} {idx : Nat} {y : MethodName} {ws : List Cond} (h1 : Cond.methodLink own idx y ∈ lw_all) (h2 : Cond.sameMethod y.cls y.cls y.name y.desc ∈ lw_all) (h3 : Cond.superclass own y.cls ∈ lw_all) (h4 : Cond.instanceMethod y ∈ lw_all) (h5 : Cond.initialized y.cls ∈ lw_all) (h : GoodIn lw_all ws) : GoodIn lw_all (va_wsSU own idx y ws) := by
  refine lw_app ?_ h
  intro w hw
  simp only [List.mem_cons, List.not_mem_nil, or_false] at hw
  rcases hw with e | e | e | e | e <;> rw [e] <;> assumption
theorem mm_aastC (C : mCx p l s m args meth c cc nL own G A) (S : mW G A s M H locs) {t x ci : Nat} {Cn : String} {T : u_T} {N : Nat} (hty : mTy[t]? = some (.object Cn)) (hva : (FieldType.object Cn ≠ .object "java/lang/Integer")) (hc : mCl[ci]? = some (Cn, T, N)) {i : Int32} {K : mM → Prop} (h : isc M x ci ∧ sta M t a i x K) (hdg : decode cc pc = .ok (.aastore, 1)) (kk : ∀ (M1 : mM) (H1 : Heap) (locs1 : List Loc), K M1 → mW G A s M1 H1 locs1 → W p l e R s m args below meth c H1 locs1 cells slots Q (F0 m (pc + 1) ls rest)) : W p l e R s m args below meth c H locs cells slots Q (F0 m pc ls (.ref x :: .int i :: .ref a :: rest)) := by
  obtain ⟨⟨w, fs, hM⟩, h⟩ := h
  refine mm_aast C S hty hva h ⟨w, ci, fs, hM⟩ (fun w' ci' fs' hM' comp hcomp => ?_) hdg kk
  rw [hM] at hM'
  cases hM'
  exact mm_sameObj C hc hcomp
theorem mObjs : ∀ r ∈ mCl, Cond.castable r.1 "java/lang/Object" ∈ lw_tbl := by
  have h : mCl.all (fun r => decide (Cond.castable r.1 "java/lang/Object" ∈ lw_tbl)) = true := by decide +kernel
  intro r hr
  exact of_decide_eq_true (List.all_eq_true.mp h r hr)
theorem mm_aastO (C : mCx p l s m args meth c cc nL own G A) (S : mW G A s M H locs) {x : Nat} {i : Int32} {K : mM → Prop} (h : iso M x ∧ sta M 5 a i x K) (hdg : decode cc pc = .ok (.aastore, 1)) (kk : ∀ (M1 : mM) (H1 : Heap) (locs1 : List Loc), K M1 → mW G A s M1 H1 locs1 → W p l e R s m args below meth c H1 locs1 cells slots Q (F0 m (pc + 1) ls rest)) : W p l e R s m args below meth c H locs cells slots Q (F0 m pc ls (.ref x :: .int i :: .ref a :: rest)) := by
  refine mm_aast C S (t := 5) rfl (by decide) h.2 h.1 (fun w' ci' fs' hM' comp hcomp => ?_) hdg kk
  obtain ⟨r, cell, h0, -⟩ := S.1 x w' _ hM'
  exact mm_anyObj C h0 (mObjs r (List.mem_of_getElem? h0)) hcomp
theorem mm_castY2 (C : mCx p l s m args meth c cc nL own G A) (S : mW G A s M H locs) {c1 c2 : Nat} {C1 C2 nm : String} {T1 T2 : u_T} {N1 N2 index : Nat} (hc1 : mCl[c1]? = some (C1, T1, N1)) (hc2 : mCl[c2]? = some (C2, T2, N2)) (hlink : Cond.classLink own index nm ∈ lw_all) (hcast1 : Cond.castable C1 nm ∈ lw_tbl) (hcast2 : Cond.castable C2 nm ∈ lw_tbl) (hi : isc M a c1 ∨ isc M a c2) (hdg : decode cc pc = .ok (.checkcast index, 3)) (kk : W p l e R s m args below meth c H locs cells slots Q (F0 m (pc + 3) ls (.ref a :: rest))) : W p l e R s m args below meth c H locs cells slots Q (F0 m pc ls (.ref a :: rest)) := by
  rcases hi with hi | hi
  · exact mm_castY C S hc1 hlink hcast1 hi hdg kk
  · exact mm_castY C S hc2 hlink hcast2 hi hdg kk
end MR2
