/-! THE MEMORY LAYER: the heap as a partial map from addresses to what lies there (with a mark: may be written), and the world that every contract of these parts stands on. mG: classes' numbers and slots, array classes' numbers, addresses of constants. -/
abbrev mX5 : Type := (Nat → Int32) ⊕ (Nat → Int64) ⊕ (Nat → UInt32) ⊕ (Nat → UInt64) ⊕ (Nat → Option Nat)
abbrev mE : Type := (Nat × Nat × mX5) ⊕ (Nat × List Value)
abbrev mM : Type := Nat → Option (Bool × mE)
abbrev mG : Type := va_G × (Nat → ClassId) × (Nat → Nat)
def mset (M : mM) (a : Nat) (e : mE) : mM := fun q => if q = a then some (true, e) else M q
theorem mset_s (M : mM) (a : Nat) (e : mE) : mset M a e a = some (true, e) := if_pos rfl
theorem mset_n {M : mM} {a q : Nat} {e : mE} (h : q ≠ a) : mset M a e q = M q := if_neg h
def mEl (x : mX5) (j : Nat) : Value := match x with
  | .inl f => .int (f j)
  | .inr (.inl f) => .long (f j)
  | .inr (.inr (.inl f)) => .float (f j)
  | .inr (.inr (.inr (.inl f))) => .double (f j)
  | .inr (.inr (.inr (.inr f))) => va_rf (f j)
def mTy : List FieldType := [.int, .boolean, .short, .byte, .long, .object "java/lang/Object", .object "Hidecount$Cell", .object "Hidecount$Kind", .array .int, .array (.array .int), .array .boolean, .array .short, .object "java/lang/Integer", .int]
def mCl : List vw_C := [(RX1, TX1, 18), (RX2, TX2, 5), (RX3, TX3, 3), (RX4, TX4, 49), (RX5, TX5, 4), (RX6, TX6, 2), (RX8, TX8, 2), (RX10, TX10, 8), (RX11, TX11, 3), (RX12, TX12, 1), (RX13, TX13, 8), (RX14, TX14, 1), (RX15, TX15, 6), (RX16, TX16, 1), (RX17, TX17, 6), (RX18, TX18, 4), (RJ2, TJ2, 3), (RJ4, TJ4, 4), (RJ5, TJ5, 4), (RJ21, TJ21, 1), (RJ23, TJ23, 4)]
/-- what lies at the address a -/
def mAt (G : mG) (w : Bool) (a : Nat) (e : mE) (H : Heap) : Prop := match e with
  | .inl (t, n, x) => ∃ cell : Cell, H[a]? = some cell ∧ cell.cls = G.2.1 t ∧ (∀ q, cell.vm ≠ .statics q) ∧ cell.vm ≠ .unknown ∧ (n ≤ cell.slots.size ∧ cell.slots.size.toInt32 = Int32.ofNat n) ∧ (∀ j, j < n → cell.slots[j]? = some (mEl x j)) ∧ (w = true → cell.vm = .none ∧ cell.monitor = {} ∧ cell.slots.size = n)
  | .inr (ci, fs) => ∃ (r : vw_C) (cell : Cell), mCl[ci]? = some r ∧ H[a]? = some cell ∧ cell.cls = G.1.1 ci ∧ (cell.vm.isStatics = false ∧ cell.vm ≠ .unknown) ∧ (∀ k, k < r.2.2 → k < fs.length → cell.slots[G.1.2 ci k]? = some (vp_V fs k)) ∧ (w = true → cell.vm = .none ∧ cell.monitor = {} ∧ r.2.2 ≤ fs.length)
theorem mAt.kept {G : mG} {w : Bool} {a : Nat} {e : mE} {H H1 : Heap} (h : mAt G w a e H) (hq : H1[a]? = H[a]?) : mAt G w a e H1 := by
  rcases e with ⟨t, n, x⟩ | ⟨ci, fs⟩
  · obtain ⟨cell, h1, h2⟩ := h
    exact ⟨cell, hq.trans h1, h2⟩
  · obtain ⟨r, cell, h0, h1, h2⟩ := h
    exact ⟨r, cell, h0, hq.trans h1, h2⟩
theorem mAt.lt {G : mG} {w : Bool} {a : Nat} {e : mE} {H : Heap} (h : mAt G w a e H) : a < H.size := by
  rcases e with ⟨t, n, x⟩ | ⟨ci, fs⟩
  · obtain ⟨cell, h1, h2⟩ := h
    exact (Array.getElem?_eq_some_iff.mp h1).1
  · obtain ⟨r, cell, h0, h1, h2⟩ := h
    exact (Array.getElem?_eq_some_iff.mp h1).1
def mP (G : mG) (M : mM) (H : Heap) : Prop := ∀ (a : Nat) (w : Bool) (e : mE), M a = some (w, e) → mAt G w a e H
theorem mP.fresh {G : mG} {M : mM} {H : Heap} (h : mP G M H) {q : Nat} (hq : H.size ≤ q) : M q = none := by
  cases hM : M q with
  | none => rfl
  | some x =>
    obtain ⟨w, e⟩ := x
    exact absurd (h q w e hM).lt (Nat.not_lt.mpr hq)
theorem mP.set {G : mG} {M : mM} {H H1 : Heap} {a : Nat} {e : mE} (h : mP G M H) (he : mAt G true a e H1) (oq : ∀ q : Nat, q ≠ a → M q ≠ none → H1[q]? = H[q]?) : mP G (mset M a e) H1 := by
  intro q w e' hq
  by_cases hqa : q = a
  · subst hqa
    rw [mset_s] at hq
    cases hq
    exact he
  · rw [mset_n hqa] at hq
    exact (h q w e' hq).kept (oq q hqa (by rw [hq]; exact fun z => by cases z))
/-- which cells a method may change: those of its world that may be written, and those that it makes -/
def mA (M : mM) (sz : Nat) : Nat → Prop := fun q => (∃ e, M q = some (true, e)) ∨ sz ≤ q
/-! the words of the tables that ride with the world -/
def mBk : Cond → Bool
  | .fieldLinkNest .. => true
  | .methodLinkNest .. => true
  | .castable .. => true
  | .declares _ => true
  | .publicMethod _ => true
  | .unhidden .. => true
  | .privateMethod _ => true
  | _ => false
theorem mBk_tab {w : Cond} (h : mBk w = true) : w.onTables = true := by
  cases w <;> first | rfl | (exact absurd h (by decide)) | (simp [mBk] at h)
theorem mBk_warm {w : Cond} (h : mBk w = true) {s U : State} (hW : s.WarmedH U.vm) (hZ : va_Nw w s) : va_Nw w U := by
  cases w <;> first
    | exact va_Nw.warmF hW hZ
    | exact va_Nw.warmM hW hZ
    | exact va_Nw.warmC hW hZ
    | exact va_Nw.warmD hW hZ
    | exact va_tabs rfl (rfl : (s.setVm U.vm).vm = U.vm) (by rw [Cond.publicMethod_setVm hW.alike]; exact hZ)
    | exact va_tabs rfl (rfl : (s.setVm U.vm).vm = U.vm) (by rw [Cond.unhidden_setVm hW.alike]; exact hZ)
    | exact va_tabs rfl (rfl : (s.setVm U.vm).vm = U.vm) (by rw [Cond.privateMethod_setVm hW.alike]; exact hZ)
    | (simp [mBk] at h)
def mFl : List (String × MethodName × MethodName) := [("java/util/ArrayList", ⟨"java/util/List", "size", "()I"⟩, yJ2_size), ("java/util/ArrayList", ⟨"java/util/List", "get", "(I)Ljava/lang/Object;"⟩, yJ2_get), ("java/util/ArrayList", ⟨"java/util/List", "iterator", "()Ljava/util/Iterator;"⟩, yJ2_iterator), ("java/util/ArrayList", ⟨"java/util/List", "isEmpty", "()Z"⟩, yJ2_isEmpty), ("java/util/ArrayList", ⟨"java/util/List", "add", "(Ljava/lang/Object;)Z"⟩, yJ2_add), ("java/util/ArrayList$Itr", ⟨"java/util/Iterator", "hasNext", "()Z"⟩, yJ23_hasNext), ("java/util/ArrayList$Itr", ⟨"java/util/Iterator", "next", "()Ljava/lang/Object;"⟩, yJ23_next), ("java/lang/StringBuilder", ⟨"java/lang/CharSequence", "charAt", "(I)C"⟩, yJ4_charAt), ("java/lang/StringBuilder", ⟨"java/lang/CharSequence", "length", "()I"⟩, yJ4_length)]
theorem mFl_ok : ∀ q ∈ mFl, q.2.1.cls ≠ "java/lang/invoke/MethodHandle" ∧ q.2.1.cls ≠ "java/lang/invoke/VarHandle" := by decide +kernel
def mAo : List FieldType := [.object "Hidecount$Cell", .object "Hidecount$Kind", .object "java/lang/Object", .array .int, .array .short, .array (.array .int), .array .boolean]
def mAO (t : FieldType) (U : State) : Prop := (Cond.arrayOver t).before #[] U = true
theorem mAO_spec {t : FieldType} {s : State} (h : mAO (.array t) s) :
    ∃ comp c k, s.vm.findClass (FieldType.array t).toString = some comp ∧ (s.vm.classes.findIdx? fun (x : Class) => match x.kind with | .array component _ => component == comp | _ => false) = some c ∧ s.vm.classes[c]? = some k ∧ k.kind = .array comp (.array t) ∧ s.vm.findClass ("[" ++ (FieldType.array t).toString) = some c := by
  unfold mAO Cond.before at h
  simp only [Cond.holds, Cond.value, beq_iff_eq] at h
  cases hc : s.vm.findClass (FieldType.array t).toString with
  | none => simp [hc] at h
  | some comp =>
    simp only [hc, Option.bind_some, Option.bind_eq_some_iff, Option.map_eq_some_iff] at h
    obtain ⟨c, hi, k, hk, hb⟩ := h
    obtain ⟨hlt, hp, -⟩ := Array.findIdx?_eq_some_iff_getElem.mp hi
    have hkk : s.vm.classes[c] = k := (Array.getElem?_eq_some_iff.mp hk).2
    rw [hkk] at hp
    cases hkind : k.kind with
    | array component ty =>
      rw [hkind] at hb hp
      simp at hb hp
      exact ⟨comp, c, k, rfl, hi, hk, by rw [hkind, hp, hb.1], hb.2⟩
    | _ => rw [hkind] at hb; simp at hb
theorem mAO.movedA {t : FieldType} {u U : State} (hvm : u.vm.Alike U.vm) (h : mAO (.array t) u) : mAO (.array t) U := by
  obtain ⟨comp, c, k, h1, h2, h3, h4, h5⟩ := mAO_spec h
  obtain ⟨k', hk', he⟩ := hvm.2.2 _ _ h3
  have hi : (U.vm.classes.findIdx? fun (x : Class) => match x.kind with | .array component _ => component == comp | _ => false) = some c := by
    have e1 := va_idx_bare U.vm comp
    have e2 := va_idx_bare u.vm comp
    have e3 : U.vm.bare = u.vm.bare := by first | exact hvm.bare_eq | exact hvm.bare_eq.symm
    rw [e3] at e1
    exact (e1.symm.trans e2).trans h2
  have hkind : k'.kind = .array comp (.array t) := by rw [he]; exact h4
  have f1 : U.vm.findClass (FieldType.array t).toString = some comp := by rw [hvm.findClass]; exact h1
  have f2 : U.vm.findClass ("[" ++ (FieldType.array t).toString) = some c := by rw [hvm.findClass]; exact h5
  unfold mAO Cond.before Cond.holds
  simp only [Cond.value]
  rw [f1, Option.bind_some]
  refine (congrArg (fun o : Option Nat => (o.bind (fun c => (U.vm.classes[c]?).map fun (k : Class) => match k.kind with | .array _ ty => decide (ty = FieldType.array t) && decide (U.vm.findClass ("[" ++ (FieldType.array t).toString) = some c) | _ => false) == some true)) hi).trans ?_
  simp [hk', hkind, f2]
theorem mAO.moved {t : FieldType} (ht : (∃ C, t = .object C) ∨ ∃ x, t = .array x) {u U : State} (hvm : u.vm.Alike U.vm) (h : mAO t u) : mAO t U := by
  rcases ht with ⟨C, rfl⟩ | ⟨x, rfl⟩
  · exact va_AO.moved hvm h
  · exact mAO.movedA hvm h
theorem mAo_ok : ∀ t ∈ mAo, (∃ C, t = FieldType.object C) ∨ ∃ x, t = FieldType.array x := by
  intro t ht
  simp only [mAo, List.mem_cons, List.not_mem_nil, or_false] at ht
  rcases ht with h | h | h | h | h | h | h <;> subst h
  · exact Or.inl ⟨_, rfl⟩
  · exact Or.inl ⟨_, rfl⟩
  · exact Or.inl ⟨_, rfl⟩
  · exact Or.inr ⟨_, rfl⟩
  · exact Or.inr ⟨_, rfl⟩
  · exact Or.inr ⟨_, rfl⟩
  · exact Or.inr ⟨_, rfl⟩
def mNcl : List (String × String) := [("java/lang/IllegalArgumentException", "java/lang/IndexOutOfBoundsException"), ("java/lang/IllegalStateException", "java/lang/IndexOutOfBoundsException"), ("java/lang/IllegalStateException", "java/lang/IllegalArgumentException"), ("Hidecount$StepFault", "Hidecount$ReadingFault"), ("Hidecount$RouteException", "Hidecount$ReadingFault"), ("Hidecount$RouteException", "Hidecount$StepFault"), ("java/lang/StringBuilder", "java/lang/String")]
def mRA (U : State) (cA : ClassId) (k : Nat) (ty : FieldType) : Prop := ArrOfT U cA ty ∧ (k < 12 → va_RA U cA ty)
/-- what holds of the tables all through a run -/
def mKT (G : mG) (U : State) : Prop :=
  (∀ (c : Nat) (q : vw_C), mCl[c]? = some q → u_Kn U q.1 q.2.1 q.2.2 (G.1.1 c) (G.1.2 c)) ∧ (∀ (k : Nat) (ty : FieldType), mTy[k]? = some ty → mRA U (G.2.1 k) k ty) ∧
  (∀ w ∈ lw_tbl, mBk w = true → va_Nw w U) ∧ (∀ q ∈ mFl, va_Fw q.1 q.2.1 q.2.2 U) ∧ (∀ t ∈ mAo, mAO t U) ∧ (∀ q ∈ mNcl, va_Nc q.1 q.2 U) ∧ vk_R "Hidecount$Reader" 38 "NESW(" (G.2.2 2) U ∧ va_Mi "[Ljava/lang/Object;" (G.2.2 3) U
theorem mKT.warm {G : mG} {s U : State} (hW : s.WarmedH U.vm) (h : mKT G s) : mKT G U := by
  obtain ⟨h1, h2, h3, h4, h5, h6, h7, h8⟩ := h
  have hvm := hW.alike
  exact ⟨fun c q hq => u_Kn_moved hvm (h1 c q hq), fun k ty hk => ⟨arrOfT_moved hvm (h2 k ty hk).1, fun hn => ((h2 k ty hk).2 hn).moved hvm⟩, fun w hw hb => mBk_warm hb hW (h3 w hw hb), fun q hq => (h4 q hq).moved (mFl_ok q hq) hvm, fun t ht => (h5 t ht).moved (mAo_ok t ht) hvm, fun q hq => (h6 q hq).moved hvm, h7.warm hW, h8.moved hvm⟩
theorem mKT.same {G : mG} {s U : State} (h : s.vm = U.vm) (hk : mKT G s) : mKT G U := by
  have hA : s.vm.Alike U.vm := by rw [h]; exact Vm.Alike.refl _
  obtain ⟨h1, h2, h3, h4, h5, h6, h7, h8⟩ := hk
  exact ⟨fun c q hq => u_Kn_moved hA (h1 c q hq), fun k ty hk => ⟨arrOfT_moved hA (h2 k ty hk).1, fun hn => ((h2 k ty hk).2 hn).moved hA⟩, fun w hw hb => va_Nw.same (mBk_tab hb) h (h3 w hw hb), fun q hq => (h4 q hq).moved (mFl_ok q hq) hA, fun t ht => (h5 t ht).moved (mAo_ok t ht) hA, fun q hq => (h6 q hq).moved hA, vk_R.same h.symm h7, h8.moved hA⟩
/-- the constants' cells: the statics that the walks read -/
def mKS (G : mG) (A : Nat → Prop) (U : State) (H : Heap) : Prop :=
  va_Z "java/util/ArrayList" "DEFAULTCAPACITY_EMPTY_ELEMENTDATA" "[Ljava/lang/Object;" (.ref (G.2.2 0)) A U H ∧ va_Z "java/lang/String" "COMPACT_STRINGS" "Z" (.int 1) A U H ∧ va_Z "java/lang/Integer$IntegerCache" "high" "I" (.int 127) A U H ∧ va_Z "java/lang/Integer$IntegerCache" "cache" "[Ljava/lang/Integer;" (.ref (G.2.2 1)) A U H ∧
  vx_Zq Bundle.tN "UNASSIGNED_STACK" Bundle.steD A U H ∧ vx_Zq Bundle.tN "SUPPRESSED_SENTINEL" Bundle.listD A U H ∧ vx_Zq "jdk/internal/util/Preconditions" "SIOOBE_FORMATTER" "Ljava/util/function/BiFunction;" A U H
theorem mKS.moved {G : mG} {A : Nat → Prop} {u U : State} {H : Heap} (hvm : u.vm.Alike U.vm) (h : mKS G A u H) : mKS G A U H :=
  ⟨h.1.moved hvm, h.2.1.moved hvm, h.2.2.1.moved hvm, h.2.2.2.1.moved hvm, h.2.2.2.2.1.moved hvm, h.2.2.2.2.2.1.moved hvm, h.2.2.2.2.2.2.moved hvm⟩
theorem mKS.kept {G : mG} {A : Nat → Prop} {U : State} {H H1 : Heap} (h : mKS G A U H) (hq : ∀ a : Nat, a < H.size → ¬ A a → H1[a]? = H[a]?) : mKS G A U H1 :=
  ⟨h.1.kept hq, h.2.1.kept hq, h.2.2.1.kept hq, h.2.2.2.1.kept hq, h.2.2.2.2.1.kept hq, h.2.2.2.2.2.1.kept hq, h.2.2.2.2.2.2.kept hq⟩
theorem mKS.narrow {G : mG} {A B : Nat → Prop} {U : State} {H : Heap} (h : mKS G A U H) (hAB : ∀ q, B q → A q) : mKS G B U H :=
  ⟨h.1.narrow hAB, h.2.1.narrow hAB, h.2.2.1.narrow hAB, h.2.2.2.1.narrow hAB, h.2.2.2.2.1.narrow hAB, h.2.2.2.2.2.1.narrow hAB, h.2.2.2.2.2.2.narrow hAB⟩
def mRm (L b : Nat) : Room := { frames := L, cells := b, slots := b, locals := 64 * L }
def mPre (G : mG) (M : mM) (sz : Nat) (U : State) : Prop := U.heap.size = sz ∧ mP G M U.heap ∧ mKT G U ∧ mKS G (mA M sz) U U.heap
def mQ (G : mG) (A : Nat → Prop) (P : Option Value → mM → Prop) : Array Value → State → Outcome → State → Prop := fun _ st o t => (∃ (v : Option Value) (M : mM), o = .returned v ∧ P v M ∧ mP G M t.heap ∧ ∀ q e, M q = some (true, e) → A q) ∧ va_F A st t
def mXC (G : mG) (A : Nat → Prop) (X : String → Nat → mM → Prop) : String → Addr → State → State → Prop := fun E q st t => (∃ M : mM, X E q M ∧ mP G M t.heap ∧ ∀ q e, M q = some (true, e) → A q) ∧ va_F A st t
/-- A CONTRACT: from every state whose world is M, with room for L frames and b cells and slots: the method returns with P, or throws with X -/
def mMet (l : Launch) (y : MethodName) (ws : List Cond) (L b : Nat) (G : mG) (av : List Value) (M : mM) (P : Option Value → mM → Prop) (X : String → Nat → mM → Prop) : Prop :=
  ∀ sz : Nat, vx_Met l y ws (mRm L b) (va_Pc av (mPre G M sz)) (mQ G (mA M sz) P) (mXC G (mA M sz) X) b b (mA M sz)
def mRi (P : Int32 → mM → Prop) : Option Value → mM → Prop := fun v M => ∃ r : Int32, v = some (.int r) ∧ P r M
def mRl (P : Int64 → mM → Prop) : Option Value → mM → Prop := fun v M => ∃ r : Int64, v = some (.long r) ∧ P r M
def mRf (P : UInt32 → mM → Prop) : Option Value → mM → Prop := fun v M => ∃ r : UInt32, v = some (.float r) ∧ P r M
def mRd (P : UInt64 → mM → Prop) : Option Value → mM → Prop := fun v M => ∃ r : UInt64, v = some (.double r) ∧ P r M
def mRa (P : Nat → mM → Prop) : Option Value → mM → Prop := fun v M => ∃ r : Nat, v = some (.ref r) ∧ P r M
def mRv (P : mM → Prop) : Option Value → mM → Prop := fun v M => v = none ∧ P M
/-- inside a method: the world M in the heap H -/
def mW (G : mG) (A : Nat → Prop) (s : State) (M : mM) (H : Heap) (locs : List Loc) : Prop := mP G M H ∧ (∀ q e, M q = some (true, e) → A q) ∧ va_S A s.heap H locs
/-- inside a method: what stays -/
def mCx (p : Program) (l : Launch) (s : State) (m : MethodId) (args : Array Value) (meth : Method) (c : Code) (cc : ByteArray) (nL : Nat) (own : String) (G : mG) (A : Nat → Prop) : Prop :=
  p.tables.exec = Jvm.exec ∧ c.code = cc ∧ c.maxLocals = nL ∧ s.vm.findClass own = some m.cls ∧ (∀ w ∈ lw_all, w.before args s = true) ∧ meth.locks = false ∧ mKT G s ∧ mKS G A s s.heap ∧ (∀ q, s.heap.size ≤ q → A q) ∧ l.stackTraces = false
section MRW
variable {p : Program} {l : Launch} {e : Env} {R : Room} {s : State} {m : MethodId} {args : Array Value} {below : List Frame} {meth : Method} {c : Code} {H : Heap} {locs : List Loc} {cells slots : Nat} {Q : State → Prop}
variable {cc : ByteArray} {nL : Nat} {own : String} {G : mG} {A : Nat → Prop} {M : mM} {pc : Nat} {ls : Array Slot} {rest : List Value} {a : Nat}
theorem mCx.hx (C : mCx p l s m args meth c cc nL own G A) : p.tables.exec = Jvm.exec := C.1
theorem mCx.hb (C : mCx p l s m args meth c cc nL own G A) : c.code = cc := C.2.1
theorem mCx.hml (C : mCx p l s m args meth c cc nL own G A) : c.maxLocals = nL := C.2.2.1
theorem mCx.hown (C : mCx p l s m args meth c cc nL own G A) : s.vm.findClass own = some m.cls := C.2.2.2.1
theorem mCx.ts (C : mCx p l s m args meth c cc nL own G A) : ∀ w ∈ lw_all, w.before args s = true := C.2.2.2.2.1
theorem mCx.hlk (C : mCx p l s m args meth c cc nL own G A) : meth.locks = false := C.2.2.2.2.2.1
theorem mCx.kt (C : mCx p l s m args meth c cc nL own G A) : mKT G s := C.2.2.2.2.2.2.1
theorem mCx.ks (C : mCx p l s m args meth c cc nL own G A) : mKS G A s s.heap := C.2.2.2.2.2.2.2.1
theorem mCx.hA (C : mCx p l s m args meth c cc nL own G A) : ∀ q, s.heap.size ≤ q → A q := C.2.2.2.2.2.2.2.2.1
theorem mCx.hst (C : mCx p l s m args meth c cc nL own G A) : l.stackTraces = false := C.2.2.2.2.2.2.2.2.2
theorem mCx.fix (C : mCx p l s m args meth c cc nL own G A) : CallFix p m c cc nL s args lw_all own := ⟨C.hx, C.hb, C.hml, C.hown, C.ts⟩
theorem mCx.nw (C : mCx p l s m args meth c cc nL own G A) {w : Cond} (h : w ∈ lw_tbl) (hb : mBk w = true) : va_Nw w s := C.kt.2.2.1 w h hb
theorem mW.obj (S : mW G A s M H locs) {w : Bool} {ci : Nat} {fs : List Value} (h : M a = some (w, .inr (ci, fs))) {r : vw_C} (hc : mCl[ci]? = some r) : ∃ cell : Cell, H[a]? = some cell ∧ cell.cls = G.1.1 ci ∧ (cell.vm.isStatics = false ∧ cell.vm ≠ .unknown) ∧ (∀ k, k < r.2.2 → k < fs.length → cell.slots[G.1.2 ci k]? = some (vp_V fs k)) ∧ (w = true → cell.vm = .none ∧ cell.monitor = {} ∧ r.2.2 ≤ fs.length) := by
  obtain ⟨r', cell, h0, h1⟩ := S.1 a w _ h
  cases h0.symm.trans hc
  exact ⟨cell, h1⟩
theorem mW.arr (S : mW G A s M H locs) {w : Bool} {t n : Nat} {x : mX5} (h : M a = some (w, .inl (t, n, x))) : ∃ cell : Cell, H[a]? = some cell ∧ cell.cls = G.2.1 t ∧ (∀ q, cell.vm ≠ .statics q) ∧ cell.vm ≠ .unknown ∧ (n ≤ cell.slots.size ∧ cell.slots.size.toInt32 = Int32.ofNat n) ∧ (∀ j, j < n → cell.slots[j]? = some (mEl x j)) ∧ (w = true → cell.vm = .none ∧ cell.monitor = {} ∧ cell.slots.size = n) := S.1 a w _ h
theorem mW.arrW (S : mW G A s M H locs) {t n : Nat} {x : mX5} (h : M a = some (true, .inl (t, n, x))) : ∃ cell : Cell, H[a]? = some cell ∧ cell.cls = G.2.1 t ∧ (∀ q, cell.vm ≠ .statics q) ∧ cell.vm ≠ .unknown ∧ cell.slots.size = n ∧ (∀ j, j < n → cell.slots[j]? = some (mEl x j)) ∧ cell.vm = .none ∧ cell.monitor = {} := by
  obtain ⟨cell, h1, h2, h3, h4, h5, h6, h7⟩ := S.1 a true _ h
  obtain ⟨h8, h9, h10⟩ := h7 rfl
  exact ⟨cell, h1, h2, h3, h4, h10, h6, h8, h9⟩
theorem mIn {i : Int32} {n z : Nat} (h : n ≤ z) (h2 : vp_in i n) : ¬ (i < 0 ∨ z ≤ i.toNatClampNeg) := fun q => h2 (q.elim Or.inl fun e => Or.inr (Nat.le_trans h e))
theorem mArrW {G : mG} {a t n : Nat} {x : mX5} {H : Heap} {w : Bool} {cell : Cell} (h1 : H[a]? = some cell) (h2 : cell.cls = G.2.1 t) (h3 : ∀ q, cell.vm ≠ .statics q) (h4 : cell.vm ≠ .unknown) (h5 : cell.slots.size = n) (h6 : ∀ j, j < n → cell.slots[j]? = some (mEl x j)) (h7 : cell.vm = .none) (h8 : cell.monitor = {}) : mAt G w a (.inl (t, n, x)) H :=
  ⟨cell, h1, h2, h3, h4, ⟨Nat.le_of_eq h5.symm, congrArg Nat.toInt32 h5⟩, h6, fun _ => ⟨h7, h8, h5⟩⟩
theorem mArr {U : State} {cA : ClassId} {ty : FieldType} (h : ArrOfT U cA ty) {cell : Cell} (hc : cell.cls = cA) (hv : ∀ q, cell.vm ≠ .statics q) : U.isArrayOf cell ty := by
  obtain ⟨-, h2⟩ := h 0 (fun _ => .null)
  exact ⟨hv, by rw [hc]; exact h2⟩
/-- a cell of the world has another content -/
theorem mW.put (S : mW G A s M H locs) {e0 e1 : mE} {H1 : Heap} {k : Nat} (hM : M a = some (true, e0)) (he : mAt G true a e1 H1) (z : H1.size = H.size) (oq : ∀ q : Nat, q ≠ a → H1[q]? = H[q]?) : mW G A s (mset M a e1) H1 (locs ++ [⟨a, k⟩]) := by
  refine ⟨S.1.set he (fun q h _ => oq q h), fun q e h => ?_, S.2.2.put z oq (S.2.1 a e0 hM)⟩
  by_cases hq : q = a
  · subst hq; exact S.2.1 q e0 hM
  · rw [mset_n hq] at h; exact S.2.1 q e h
/-- a cell more -/
theorem mW.new (S : mW G A s M H locs) (hA : ∀ q, s.heap.size ≤ q → A q) {e1 : mE} {H1 : Heap} (he : mAt G true H.size e1 H1) (z : H1.size = H.size + 1) (oq : ∀ q : Nat, q < H.size → H1[q]? = H[q]?) : mW G A s (mset M H.size e1) H1 locs := by
  refine ⟨S.1.set he (fun q h hn => oq q (Nat.lt_of_not_le fun hle => hn (S.1.fresh hle))), fun q e h => ?_, ⟨Nat.le_trans S.2.2.1 (by omega), fun x h1 h2 => (oq x (Nat.lt_of_lt_of_le h1 S.2.2.1)).trans (S.2.2.2.1 x h1 h2), S.2.2.2.2⟩⟩
  by_cases hq : q = H.size
  · subst hq; exact hA _ S.2.2.1
  · rw [mset_n hq] at h; exact S.2.1 q e h
end MRW
/-! what the walks' predicates are made of: reads, writes, new cells -/
def gfi (M : mM) (a ci k : Nat) (K : Int32 → Prop) : Prop := ∃ (w : Bool) (fs : List Value) (v : Int32), M a = some (w, .inr (ci, fs)) ∧ fs[k]? = some (.int v) ∧ K v
def gfa (M : mM) (a ci k : Nat) (K : Nat → Prop) : Prop := ∃ (w : Bool) (fs : List Value) (v : Nat), M a = some (w, .inr (ci, fs)) ∧ fs[k]? = some (.ref v) ∧ K v
def pfi (M : mM) (a ci k : Nat) (v : Int32) (K : mM → Prop) : Prop := ∃ fs : List Value, M a = some (true, .inr (ci, fs)) ∧ k < fs.length ∧ K (mset M a (.inr (ci, fs.set k (.int v))))
def pfn (M : mM) (a ci k : Nat) (ty : FieldType) (v : Int32) (K : mM → Prop) : Prop := ∃ fs : List Value, M a = some (true, .inr (ci, fs)) ∧ k < fs.length ∧ (narrow ty (.int v) = .int v ∧ fits ty (.int v) = true) ∧ K (mset M a (.inr (ci, fs.set k (.int v))))
def pfq (M : mM) (a ci k : Nat) (v : Option Nat) (K : mM → Prop) : Prop := ∃ fs : List Value, M a = some (true, .inr (ci, fs)) ∧ k < fs.length ∧ K (mset M a (.inr (ci, fs.set k (va_rf v))))
def ldi (M : mM) (t a : Nat) (i : Int32) (K : Int32 → Prop) : Prop := ∃ (w : Bool) (n : Nat) (f : Nat → Int32), M a = some (w, .inl (t, n, .inl f)) ∧ vp_in i n ∧ K (f i.toNatClampNeg)
def ldl (M : mM) (t a : Nat) (i : Int32) (K : Int64 → Prop) : Prop := ∃ (w : Bool) (n : Nat) (f : Nat → Int64), M a = some (w, .inl (t, n, .inr (.inl f))) ∧ vp_in i n ∧ K (f i.toNatClampNeg)
def lda (M : mM) (t a : Nat) (i : Int32) (K : Nat → Prop) : Prop := ∃ (w : Bool) (n : Nat) (f : Nat → Option Nat) (v : Nat), M a = some (w, .inl (t, n, .inr (.inr (.inr (.inr f))))) ∧ vp_in i n ∧ f i.toNatClampNeg = some v ∧ K v
def sti (M : mM) (t a : Nat) (i x : Int32) (K : mM → Prop) : Prop := ∃ (n : Nat) (f : Nat → Int32), M a = some (true, .inl (t, n, .inl f)) ∧ vp_in i n ∧ K (mset M a (.inl (t, n, .inl (upd f i.toNatClampNeg x))))
def stl (M : mM) (t a : Nat) (i : Int32) (x : Int64) (K : mM → Prop) : Prop := ∃ (n : Nat) (f : Nat → Int64), M a = some (true, .inl (t, n, .inr (.inl f))) ∧ vp_in i n ∧ K (mset M a (.inl (t, n, .inr (.inl (vp_updL f i.toNatClampNeg x)))))
def sta (M : mM) (t a : Nat) (i : Int32) (x : Nat) (K : mM → Prop) : Prop := ∃ (n : Nat) (f : Nat → Option Nat), M a = some (true, .inl (t, n, .inr (.inr (.inr (.inr f))))) ∧ vp_in i n ∧ K (mset M a (.inl (t, n, .inr (.inr (.inr (.inr (va_up f i.toNatClampNeg (some x))))))))
def aln (M : mM) (a : Nat) (K : Int32 → Prop) : Prop := ∃ (w : Bool) (t n : Nat) (x : mX5), M a = some (w, .inl (t, n, x)) ∧ t < 14 ∧ K (Int32.ofNat n)
def isc (M : mM) (a ci : Nat) : Prop := ∃ (w : Bool) (fs : List Value), M a = some (w, .inr (ci, fs))
/-- an object of ours, to be thrown -/
def ist (M : mM) (a ci : Nat) : Prop := ∃ fs : List Value, M a = some (true, .inr (ci, fs))
def nwo (M : mM) (r ci N : Nat) (fs : List Value) (K : Nat → mM → Nat → Prop) : Prop := N + 1 ≤ r ∧ ∀ q : Nat, (∀ x, q ≤ x → M x = none) → K q (mset M q (.inr (ci, fs))) (r - (N + 1))
def nwa (M : mM) (r t : Nat) (n : Int32) (x : mX5) (K : Nat → mM → Nat → Prop) : Prop := ¬ n < 0 ∧ n.toNatClampNeg ≤ 60000000 ∧ n.toNatClampNeg + 1 ≤ r ∧ ∀ q : Nat, (∀ x, q ≤ x → M x = none) → K q (mset M q (.inl (t, n.toNatClampNeg, x))) (r - (n.toNatClampNeg + 1))
section MRR
variable {p : Program} {l : Launch} {e : Env} {R : Room} {s : State} {m : MethodId} {args : Array Value} {below : List Frame} {meth : Method} {c : Code} {H : Heap} {locs : List Loc} {cells slots : Nat} {Q : State → Prop}
variable {cc : ByteArray} {nL : Nat} {own : String} {G : mG} {A : Nat → Prop} {M : mM} {pc : Nat} {ls : Array Slot} {rest : List Value} {a : Nat}
theorem mm_gf (C : mCx p l s m args meth c cc nL own G A) (S : mW G A s M H locs) {ci k : Nat} {Cn : String} {T : u_T} {N : Nat} (hc : mCl[ci]? = some (Cn, T, N)) (hin : ∀ w ∈ u_ws Cn T N, w ∈ lw_all) (hk : k < N) {ref : String} {index : Nat} (hlink : Cond.fieldLink own index ref (T k).2.1 (T k).2.2.1 ∈ lw_all) (hsame : ∀ x, s.fieldFound? (T k).1 (T k).2.1 (T k).2.2.1 = some x → s.fieldFound? ref (T k).2.1 (T k).2.2.1 = some x) (hdg : decode cc pc = .ok (.getfield index, 3)) {w : Bool} {fs : List Value} {v : Value} (hM : M a = some (w, .inr (ci, fs))) (hv : fs[k]? = some v)
    (kk : W p l e R s m args below meth c H locs cells slots Q (F0 m (pc + 3) ls (v :: rest))) : W p l e R s m args below meth c H locs cells slots Q (F0 m pc ls (.ref a :: rest)) := by
  obtain ⟨cell, q1, q2, q3, q4, -⟩ := S.obj hM hc
  obtain ⟨hS, hfc, kC, hkC, hkind⟩ := C.kt.1 ci _ hc
  obtain ⟨cf, kf, fi, f, hi, hsl⟩ := hS k hk
  refine W.getf C.hx C.hb C.hown (C.ts _ hlink) (hsame _ hi) (u_facts hfc hkC (u_lays C.ts hin hk) hi).1 q1 q3.2 (v := v) ?_ rfl rfl hdg kk
  rw [hsl, q4 k hk (List.getElem?_eq_some_iff.mp hv).1]
  simp [vp_V, hv]
theorem mm_gfN (C : mCx p l s m args meth c cc nL own G A) (S : mW G A s M H locs) {ci k : Nat} {Cn host : String} {T : u_T} {N : Nat} (hc : mCl[ci]? = some (Cn, T, N)) (hin : ∀ w ∈ u_ws Cn T N, w ∈ lw_all) (hk : k < N) {ref : String} {index : Nat} (hlink : Cond.fieldLinkNest own index ref (T k).2.1 (T k).2.2.1 host ∈ lw_tbl) (hsame : ∀ x, s.fieldFound? (T k).1 (T k).2.1 (T k).2.2.1 = some x → s.fieldFound? ref (T k).2.1 (T k).2.2.1 = some x) (hdg : decode cc pc = .ok (.getfield index, 3)) {w : Bool} {fs : List Value} {v : Value} (hM : M a = some (w, .inr (ci, fs))) (hv : fs[k]? = some v)
    (kk : W p l e R s m args below meth c H locs cells slots Q (F0 m (pc + 3) ls (v :: rest))) : W p l e R s m args below meth c H locs cells slots Q (F0 m pc ls (.ref a :: rest)) := by
  obtain ⟨cell, q1, q2, q3, q4, -⟩ := S.obj hM hc
  obtain ⟨hS, hfc, kC, hkC, hkind⟩ := C.kt.1 ci _ hc
  obtain ⟨cf, kf, fi, f, hi, hsl⟩ := hS k hk
  refine va_Wgetf C.hx C.hb C.hown (va_Nw.use rfl (C.nw hlink rfl)) (hsame _ hi) (u_facts hfc hkC (u_lays C.ts hin hk) hi).1 q1 q3.2 (v := v) ?_ rfl rfl hdg kk
  rw [hsl, q4 k hk (List.getElem?_eq_some_iff.mp hv).1]
  simp [vp_V, hv]
theorem mm_gfi (C : mCx p l s m args meth c cc nL own G A) (S : mW G A s M H locs) {ci k : Nat} {Cn : String} {T : u_T} {N : Nat} (hc : mCl[ci]? = some (Cn, T, N)) (hin : ∀ w ∈ u_ws Cn T N, w ∈ lw_all) (hk : k < N) {ref : String} {index : Nat} (hlink : Cond.fieldLink own index ref (T k).2.1 (T k).2.2.1 ∈ lw_all) (hsame : ∀ x, s.fieldFound? (T k).1 (T k).2.1 (T k).2.2.1 = some x → s.fieldFound? ref (T k).2.1 (T k).2.2.1 = some x) (hdg : decode cc pc = .ok (.getfield index, 3)) {K : Int32 → Prop} (h : gfi M a ci k K)
    (kk : ∀ v, K v → W p l e R s m args below meth c H locs cells slots Q (F0 m (pc + 3) ls (.int v :: rest))) : W p l e R s m args below meth c H locs cells slots Q (F0 m pc ls (.ref a :: rest)) := by
  obtain ⟨w, fs, v, h1, h2, h3⟩ := h
  exact mm_gf C S hc hin hk hlink hsame hdg h1 h2 (kk v h3)
theorem mm_gfa (C : mCx p l s m args meth c cc nL own G A) (S : mW G A s M H locs) {ci k : Nat} {Cn : String} {T : u_T} {N : Nat} (hc : mCl[ci]? = some (Cn, T, N)) (hin : ∀ w ∈ u_ws Cn T N, w ∈ lw_all) (hk : k < N) {ref : String} {index : Nat} (hlink : Cond.fieldLink own index ref (T k).2.1 (T k).2.2.1 ∈ lw_all) (hsame : ∀ x, s.fieldFound? (T k).1 (T k).2.1 (T k).2.2.1 = some x → s.fieldFound? ref (T k).2.1 (T k).2.2.1 = some x) (hdg : decode cc pc = .ok (.getfield index, 3)) {K : Nat → Prop} (h : gfa M a ci k K)
    (kk : ∀ v, K v → W p l e R s m args below meth c H locs cells slots Q (F0 m (pc + 3) ls (.ref v :: rest))) : W p l e R s m args below meth c H locs cells slots Q (F0 m pc ls (.ref a :: rest)) := by
  obtain ⟨w, fs, v, h1, h2, h3⟩ := h
  exact mm_gf C S hc hin hk hlink hsame hdg h1 h2 (kk v h3)
theorem mm_gfiN (C : mCx p l s m args meth c cc nL own G A) (S : mW G A s M H locs) {ci k : Nat} {Cn host : String} {T : u_T} {N : Nat} (hc : mCl[ci]? = some (Cn, T, N)) (hin : ∀ w ∈ u_ws Cn T N, w ∈ lw_all) (hk : k < N) {ref : String} {index : Nat} (hlink : Cond.fieldLinkNest own index ref (T k).2.1 (T k).2.2.1 host ∈ lw_tbl) (hsame : ∀ x, s.fieldFound? (T k).1 (T k).2.1 (T k).2.2.1 = some x → s.fieldFound? ref (T k).2.1 (T k).2.2.1 = some x) (hdg : decode cc pc = .ok (.getfield index, 3)) {K : Int32 → Prop} (h : gfi M a ci k K)
    (kk : ∀ v, K v → W p l e R s m args below meth c H locs cells slots Q (F0 m (pc + 3) ls (.int v :: rest))) : W p l e R s m args below meth c H locs cells slots Q (F0 m pc ls (.ref a :: rest)) := by
  obtain ⟨w, fs, v, h1, h2, h3⟩ := h
  exact mm_gfN C S hc hin hk hlink hsame hdg h1 h2 (kk v h3)
theorem mm_gfaN (C : mCx p l s m args meth c cc nL own G A) (S : mW G A s M H locs) {ci k : Nat} {Cn host : String} {T : u_T} {N : Nat} (hc : mCl[ci]? = some (Cn, T, N)) (hin : ∀ w ∈ u_ws Cn T N, w ∈ lw_all) (hk : k < N) {ref : String} {index : Nat} (hlink : Cond.fieldLinkNest own index ref (T k).2.1 (T k).2.2.1 host ∈ lw_tbl) (hsame : ∀ x, s.fieldFound? (T k).1 (T k).2.1 (T k).2.2.1 = some x → s.fieldFound? ref (T k).2.1 (T k).2.2.1 = some x) (hdg : decode cc pc = .ok (.getfield index, 3)) {K : Nat → Prop} (h : gfa M a ci k K)
    (kk : ∀ v, K v → W p l e R s m args below meth c H locs cells slots Q (F0 m (pc + 3) ls (.ref v :: rest))) : W p l e R s m args below meth c H locs cells slots Q (F0 m pc ls (.ref a :: rest)) := by
  obtain ⟨w, fs, v, h1, h2, h3⟩ := h
  exact mm_gfN C S hc hin hk hlink hsame hdg h1 h2 (kk v h3)
/-- an object's cell with a field set -/
theorem mAt_put {ci k : Nat} {r : vw_C} (hc : mCl[ci]? = some r) {cell : Cell} {fs : List Value} {v : Value} {H1 : Heap} (q2 : cell.cls = G.1.1 ci) (q3 : cell.vm = .none) (q4 : ∀ k, k < r.2.2 → cell.slots[G.1.2 ci k]? = some (vp_V fs k)) (q5 : cell.monitor = {}) (q6 : r.2.2 ≤ fs.length) (hap : ∀ a b, a < r.2.2 → b < r.2.2 → a ≠ b → G.1.2 ci a ≠ G.1.2 ci b) (hk : k < r.2.2) (hl : k < fs.length) (e1 : H1[a]? = some (cell.setSlot (G.1.2 ci k) v)) : mAt G true a (.inr (ci, fs.set k v)) H1 := by
  refine ⟨r, _, hc, e1, q2, ⟨by show cell.vm.isStatics = false; rw [q3]; rfl, by show cell.vm ≠ _; rw [q3]; exact fun z => by cases z⟩, fun j hj _ => ?_, fun _ => ⟨q3, q5, by rw [List.length_set]; exact q6⟩⟩
  rw [t_set q4 hap hk v j hj, vp_updV_set hl v j]
theorem mm_pf (C : mCx p l s m args meth c cc nL own G A) (S : mW G A s M H locs) {ci k : Nat} {Cn : String} {T : u_T} {N : Nat} (hc : mCl[ci]? = some (Cn, T, N)) (hin : ∀ w ∈ u_ws Cn T N, w ∈ lw_all) {ty0 : Nat → FieldType} (hty : ∀ k, k < N → parseFieldDescriptor (T k).2.2.1 = some (ty0 k)) (hnm : ∀ a, a < N → ∀ b, b < N → a ≠ b → (T a).2.1 ≠ (T b).2.1) (hk : k < N) {ref : String} {index : Nat} (hlink : Cond.fieldLink own index ref (T k).2.1 (T k).2.2.1 ∈ lw_all) (hsame : ∀ x, s.fieldFound? (T k).1 (T k).2.1 (T k).2.2.1 = some x → s.fieldFound? ref (T k).2.1 (T k).2.2.1 = some x) (hfin : (T k).2.2.2 = false) (hdg : decode cc pc = .ok (.putfield index, 3)) {fs : List Value} {v : Value} (hn : narrow (ty0 k) v = v) (hfit : fits (ty0 k) v = true) (hM : M a = some (true, .inr (ci, fs))) (hl : k < fs.length)
    (kk : ∀ (H1 : Heap) (locs1 : List Loc), mW G A s (mset M a (.inr (ci, fs.set k v))) H1 locs1 → W p l e R s m args below meth c H1 locs1 cells slots Q (F0 m (pc + 3) ls rest)) : W p l e R s m args below meth c H locs cells slots Q (F0 m pc ls (v :: .ref a :: rest)) := by
  obtain ⟨cell, q1, q2, -, q4', q5'⟩ := S.obj hM hc
  obtain ⟨q3, q5, q6⟩ := q5' rfl
  have q4 := fun k (hk : k < N) => q4' k hk (Nat.lt_of_lt_of_le hk q6)
  obtain ⟨hS, hfc, kC, hkC, hkind⟩ := C.kt.1 ci _ hc
  obtain ⟨cf, kf, fi, f, hi, hsl⟩ := hS k hk
  have hlay := C.ts _ (hin _ (u_in_lay hk))
  unfold u_lay at hlay
  rw [if_neg (by rw [hfin]; decide)] at hlay
  have hst := (u_facts hfc hkC (u_lays C.ts hin hk) hi).1
  have h6 := u_store hfc hkC hkind hlay hi (hty k hk) hn hfit
  have hap : ∀ x y, x < N → y < N → x ≠ y → G.1.2 ci x ≠ G.1.2 ci y := by
    intro x y hx hy hne
    obtain ⟨_, _, _, fa, hia, ea⟩ := hS x hx
    obtain ⟨_, _, _, fb, hib, eb⟩ := hS y hy
    rw [← ea, ← eb]
    refine u_apart (u_lays C.ts hin hx) (u_lays C.ts hin hy) hia hib ?_
    rw [(State.fieldFound?_type hia (hty x hx)).1, (State.fieldFound?_type hib (hty y hy)).1]
    exact hnm x hx y hy hne
  refine W.putK C.hx C.hb (f := f) ⟨C.hown, C.ts _ hlink, ⟨_, _, _, hsame _ hi⟩, hst⟩ (by rw [q2]; exact h6) q1 q3 (by rw [hsl]; exact k2_hasslot (q4 k hk)) rfl rfl hdg fun H' e1 e2 e3 => ?_
  rw [hsl] at e1 ⊢
  exact kk H' _ (S.put hM (mAt_put hc q2 q3 q4 q5 q6 hap hk hl e1) e2 e3)
theorem mm_pfN (C : mCx p l s m args meth c cc nL own G A) (S : mW G A s M H locs) {ci k : Nat} {Cn host : String} {T : u_T} {N : Nat} (hc : mCl[ci]? = some (Cn, T, N)) (hin : ∀ w ∈ u_ws Cn T N, w ∈ lw_all) {ty0 : Nat → FieldType} (hty : ∀ k, k < N → parseFieldDescriptor (T k).2.2.1 = some (ty0 k)) (hnm : ∀ a, a < N → ∀ b, b < N → a ≠ b → (T a).2.1 ≠ (T b).2.1) (hk : k < N) {ref : String} {index : Nat} (hlink : Cond.fieldLinkNest own index ref (T k).2.1 (T k).2.2.1 host ∈ lw_tbl) (hsame : ∀ x, s.fieldFound? (T k).1 (T k).2.1 (T k).2.2.1 = some x → s.fieldFound? ref (T k).2.1 (T k).2.2.1 = some x) (hfin : (T k).2.2.2 = false) (hdg : decode cc pc = .ok (.putfield index, 3)) {fs : List Value} {v : Value} (hn : narrow (ty0 k) v = v) (hfit : fits (ty0 k) v = true) (hM : M a = some (true, .inr (ci, fs))) (hl : k < fs.length)
    (kk : ∀ (H1 : Heap) (locs1 : List Loc), mW G A s (mset M a (.inr (ci, fs.set k v))) H1 locs1 → W p l e R s m args below meth c H1 locs1 cells slots Q (F0 m (pc + 3) ls rest)) : W p l e R s m args below meth c H locs cells slots Q (F0 m pc ls (v :: .ref a :: rest)) := by
  obtain ⟨cell, q1, q2, -, q4', q5'⟩ := S.obj hM hc
  obtain ⟨q3, q5, q6⟩ := q5' rfl
  have q4 := fun k (hk : k < N) => q4' k hk (Nat.lt_of_lt_of_le hk q6)
  obtain ⟨hS, hfc, kC, hkC, hkind⟩ := C.kt.1 ci _ hc
  obtain ⟨cf, kf, fi, f, hi, hsl⟩ := hS k hk
  have hlay := C.ts _ (hin _ (u_in_lay hk))
  unfold u_lay at hlay
  rw [if_neg (by rw [hfin]; decide)] at hlay
  have hst := (u_facts hfc hkC (u_lays C.ts hin hk) hi).1
  have h6 := u_store hfc hkC hkind hlay hi (hty k hk) hn hfit
  have hap : ∀ x y, x < N → y < N → x ≠ y → G.1.2 ci x ≠ G.1.2 ci y := by
    intro x y hx hy hne
    obtain ⟨_, _, _, fa, hia, ea⟩ := hS x hx
    obtain ⟨_, _, _, fb, hib, eb⟩ := hS y hy
    rw [← ea, ← eb]
    refine u_apart (u_lays C.ts hin hx) (u_lays C.ts hin hy) hia hib ?_
    rw [(State.fieldFound?_type hia (hty x hx)).1, (State.fieldFound?_type hib (hty y hy)).1]
    exact hnm x hx y hy hne
  refine va_WputK C.hx C.hb (f := f) C.hown (va_Nw.use rfl (C.nw hlink rfl)) (hsame _ hi) hst (by rw [q2]; exact h6) q1 q3 (by rw [hsl]; exact k2_hasslot (q4 k hk)) rfl rfl hdg fun H' e1 e2 e3 => ?_
  rw [hsl] at e1 ⊢
  exact kk H' _ (S.put hM (mAt_put hc q2 q3 q4 q5 q6 hap hk hl e1) e2 e3)
/-- a final field, in its class's constructor -/
theorem mm_pfF (C : mCx p l s m args meth c cc nL own G A) (S : mW G A s M H locs) {ci k : Nat} {Cn : String} {T : u_T} {N : Nat} (hc : mCl[ci]? = some (Cn, T, N)) (hin : ∀ w ∈ u_ws Cn T N, w ∈ lw_all) {ty0 : Nat → FieldType} (hty : ∀ k, k < N → parseFieldDescriptor (T k).2.2.1 = some (ty0 k)) (hnm : ∀ a, a < N → ∀ b, b < N → a ≠ b → (T a).2.1 ≠ (T b).2.1) (hk : k < N) {ref : String} {index : Nat} (hlink : Cond.fieldLink own index ref (T k).2.1 (T k).2.2.1 ∈ lw_all) (hsame : ∀ x, s.fieldFound? (T k).1 (T k).2.1 (T k).2.2.1 = some x → s.fieldFound? ref (T k).2.1 (T k).2.2.1 = some x) (hfin : (T k).2.2.2 = true) (hin2 : meth.name = "<init>") (hdecl : (T k).1 = own) (hdg : decode cc pc = .ok (.putfield index, 3)) {fs : List Value} {v : Value} (hn : narrow (ty0 k) v = v) (hfit : fits (ty0 k) v = true) (hM : M a = some (true, .inr (ci, fs))) (hl : k < fs.length)
    (kk : ∀ (H1 : Heap) (locs1 : List Loc), mW G A s (mset M a (.inr (ci, fs.set k v))) H1 locs1 → W p l e R s m args below meth c H1 locs1 cells slots Q (F0 m (pc + 3) ls rest)) : W p l e R s m args below meth c H locs cells slots Q (F0 m pc ls (v :: .ref a :: rest)) := by
  obtain ⟨cell, q1, q2, -, q4', q5'⟩ := S.obj hM hc
  obtain ⟨q3, q5, q6⟩ := q5' rfl
  have q4 := fun k (hk : k < N) => q4' k hk (Nat.lt_of_lt_of_le hk q6)
  obtain ⟨hS, hfc, kC, hkC, hkind⟩ := C.kt.1 ci _ hc
  obtain ⟨cf, kf, fi, f, hi, hsl⟩ := hS k hk
  have hlay := C.ts _ (hin _ (u_in_lay hk))
  unfold u_lay at hlay
  rw [if_pos hfin] at hlay
  have hst := (u_facts hfc hkC (u_lays C.ts hin hk) hi).1
  have hcf : m.cls = cf := by
    obtain ⟨_, _, c', _, _, _, -, -, hf', -, -, -, hown2, -⟩ := Cond.laysFinal_spec hlay
    have e1 : c' = cf := by have := hi.symm.trans hf'; simp at this; exact this.1.symm
    rw [hdecl] at hown2
    rw [← e1]; exact Option.some.inj (C.hown.symm.trans hown2)
  have h6 := u_fits hfc hkC hkind (Or.inr hlay) hi (hty k hk) hn hfit
  have hap : ∀ x y, x < N → y < N → x ≠ y → G.1.2 ci x ≠ G.1.2 ci y := by
    intro x y hx hy hne
    obtain ⟨_, _, _, fa, hia, ea⟩ := hS x hx
    obtain ⟨_, _, _, fb, hib, eb⟩ := hS y hy
    rw [← ea, ← eb]
    refine u_apart (u_lays C.ts hin hx) (u_lays C.ts hin hy) hia hib ?_
    rw [(State.fieldFound?_type hia (hty x hx)).1, (State.fieldFound?_type hib (hty y hy)).1]
    exact hnm x hx y hy hne
  refine W.putFinK C.hx C.hb C.hown (C.ts _ hlink) (hsame _ hi) hst hcf hin2 (by rw [q2]; exact h6) q1 q3 (by rw [hsl]; exact k2_hasslot (q4 k hk)) rfl rfl hdg fun H' e1 e2 e3 => ?_
  rw [hsl] at e1 ⊢
  exact kk H' _ (S.put hM (mAt_put hc q2 q3 q4 q5 q6 hap hk hl e1) e2 e3)
end MRR
