/-! METHODS WITH AN EXCEPTION TABLE: their calls, their entry, what they catch -/
section MR10
variable {p : Program} {l : Launch} {e : Env} {R : Room} {s : State} {m : MethodId} {args : Array Value} {below : List Frame} {meth : Method} {c : Code} {H : Heap} {locs : List Loc} {cells slots : Nat} {Q : State → Prop}
variable {cc : ByteArray} {nL : Nat} {own : String} {G : mG} {A : Nat → Prop} {M : mM} {pc : Nat} {ls : Array Slot} {rest : List Value} {a : Nat}
section CALLW
variable {k b1 b r r1 : Nat} {P : Option Value → mM → Prop} {X : String → Nat → mM → Prop} {st0 : List Value} {y : MethodName} {bytes : ByteArray} {maxL index n Lc : Nat} {ret : Option FieldType} {As : List Value} {ci N : Nat} {Cn : String} {T : u_T} {hh : List (Nat × Nat × Nat × Nat)}
theorem mm_VX (C : mCx p l s m args meth c cc nL own G A) (S : mW G A s M H locs) (hls : ls.size = nL) (hM : mMet l y (wsW_ y bytes maxL ret hh) Lc b1 G (.ref a :: As) M P X) (hc : mCl[ci]? = some (Cn, T, N)) (hi : isc M a ci) (hw : GoodIn lw_all (wsV own index Cn y (wsW_ y bytes maxL ret hh))) (hy : y.cls = Cn) (hd : mMd y n) (hR : mRo Lc b1 maxL R) (hn : As.length = n) (hst : st0 = As.reverse ++ .ref a :: rest) (hrm : (rest.map fun v => v.category).sum ≤ 8) (hdg : decode cc pc = .ok (.invokevirtual index, 3)) (hR1 : R.cells = b) (hR2 : R.slots = b) (hk : k + r ≤ b) (hr1 : b1 + r1 = r)
    (kk : ∀ (v : Option Value) (M1 : mM) (H1 : Heap) (locs1 : List Loc), P v M1 → mW G A s M1 H1 locs1 → k + b1 + r1 ≤ b → W p l e R s m args below meth c H1 locs1 (k + b1) (k + b1) Q (F0 m (pc + 3) ls (v.toList ++ rest)))
    (kx : ∀ (E : String) (q : Nat) (ce : Cell) (M1 : mM) (H1 : Heap) (locs1 : List Loc), X E q M1 → mW G A s M1 H1 locs1 → k + b1 + r1 ≤ b → H1[q]? = some ce → ce.vm = .none → s.vm.findClass E = some ce.cls → vx_W p l e R s m args below meth c H1 locs1 (k + b1) (k + b1) Q (F0 m pc ls rest) q) : W p l e R s m args below meth c H locs k k Q (F0 m pc ls st0) := by
  subst hst
  exact mm_call C S (vx_runVX C.fix (hM H.size) (vx_cwVW n C.ts hw rfl rfl rfl ⟨hy, hd⟩ hR) ⟨mm_blind _ G M H.size, mm_recv C S hc hi, fun U hU hW => ⟨rfl, mm_pre C S hU hW⟩⟩ rfl hn hls rfl (by show 2 * 0 + _ ≤ 8; omega) hdg ⟨by rw [hR1]; omega, by rw [hR2]; omega⟩) hk hr1 kk kx
theorem mm_SX (C : mCx p l s m args meth c cc nL own G A) (S : mW G A s M H locs) (hls : ls.size = nL) (hM : mMet l y (wsW_ y bytes maxL ret hh) Lc b1 G As M P X) (hw : GoodIn lw_all (va_wsS own index y (wsW_ y bytes maxL ret hh))) (hd : mMd y n) (hR : mRo Lc b1 maxL R) (hn : As.length = n) (hst : st0 = As.reverse ++ rest) (hrm : (rest.map fun v => v.category).sum ≤ 8) (hdg : decode cc pc = .ok (.invokestatic index, 3)) (hR1 : R.cells = b) (hR2 : R.slots = b) (hk : k + r ≤ b) (hr1 : b1 + r1 = r)
    (kk : ∀ (v : Option Value) (M1 : mM) (H1 : Heap) (locs1 : List Loc), P v M1 → mW G A s M1 H1 locs1 → k + b1 + r1 ≤ b → W p l e R s m args below meth c H1 locs1 (k + b1) (k + b1) Q (F0 m (pc + 3) ls (v.toList ++ rest)))
    (kx : ∀ (E : String) (q : Nat) (ce : Cell) (M1 : mM) (H1 : Heap) (locs1 : List Loc), X E q M1 → mW G A s M1 H1 locs1 → k + b1 + r1 ≤ b → H1[q]? = some ce → ce.vm = .none → s.vm.findClass E = some ce.cls → vx_W p l e R s m args below meth c H1 locs1 (k + b1) (k + b1) Q (F0 m pc ls rest) q) : W p l e R s m args below meth c H locs k k Q (F0 m pc ls st0) := by
  subst hst
  exact mm_call C S (vx_runSX C.fix (hM H.size) (vx_cwSW n C.ts hw rfl rfl rfl hd hR) ⟨mm_blind _ G M H.size, fun U hU hW => ⟨rfl, mm_pre C S hU hW⟩⟩ rfl hn hls rfl (by show 2 * 0 + _ ≤ 8; omega) hdg ⟨by rw [hR1]; omega, by rw [hR2]; omega⟩) hk hr1 kk kx
end CALLW
/-- a contract out of the walk of a method with a table -/
theorem mm_metW {y : MethodName} {maxL L b : Nat} {ret : Option FieldType} {hh : List (Nat × Nat × Nat × Nat)} {av : List Value} {PP : Option Value → mM → Prop} {X : String → Nat → mM → Prop} (hl : l.stackTraces = false) (hy : plainName y.cls = true) (hlen : (lg_sl av).length ≤ maxL)
    (body : ∀ (p : Program) (e : Env) (s : State) (m : MethodId) (args : Array Value) (below : List Frame) (meth : Method) (c : Code) (ls : Array Slot), mCx p l s m args meth c cc maxL y.cls G (mA M s.heap.size) → meth.sig.returnType = ret → c.exceptionTable.toList = tableOf hh → meth.name = y.name → lv_has ls maxL (lv_args 0 av) → mW G (mA M s.heap.size) s M s.heap [] →
      W p l e (mRm L b) s m args below meth c s.heap [] 0 0 (vx_MQ below (mQ G (mA M s.heap.size) PP) (mXC G (mA M s.heap.size) X) args s b b (mA M s.heap.size)) (F0 m 0 ls [])) : mMet l y (wsW_ y cc maxL ret hh) L b G av M PP X := by
  intro sz
  refine vx_ofWH (cc := cc) (maxL := maxL) (ret := ret) (hh := hh) hy rfl ?_
  intro p e s m args below meth c s₁ B hml hv
  have hpre : (headSpec (wsW_ y cc maxL ret hh) (mRm L b)).pre.before args s = true → ∀ w ∈ lw_all, w.before args s = true := fun h w hw => atoms_spec (ws := wsW_ y cc maxL ret hh) h w (List.mem_cons_of_mem _ hw)
  obtain ⟨ha, hsz, C, S⟩ := mm_enter hl B hml hpre rfl hv
  subst ha
  subst hsz
  have hls := lv_entry av hlen
  rw [lg_entry_eq]
  exact body p e s m _ below meth c _ C B.returns (vx_table (x := y) B (atoms_spec (ws := wsW_ y cc maxL ret hh) B.pre _ List.mem_cons_self)) (name_of_methodNamed B.named B.method).1 hls S
/-- caught by a handler of any class -/
theorem mm_catchAny {ce : Cell} {q : Addr} {E : String} (pre : List ExceptionTableEntry) (x : ExceptionTableEntry) (suf : List ExceptionTableEntry) (hsplit : c.exceptionTable.toList = pre ++ x :: suf) (hpass : ∀ z ∈ pre, covers z pc = false) (hx : covers x pc = true) (h0 : x.catchType = 0) (hcell : H[q]? = some ce) (hv : ce.vm = .none) (hcl : s.vm.findClass E = some ce.cls)
    (kk : W p l e R s m args below meth c H locs cells slots Q (F0 m x.handlerPc ls [.ref q])) : vx_W p l e R s m args below meth c H locs cells slots Q (F0 m pc ls rest) q := by
  intro T hT X
  obtain ⟨vm', X', st⟩ := X.thenCaughtThrough q (g := F0 m pc ls rest) rfl (Steps.refl _) (by rw [hT]; exact hcell) (by rw [hv]; rfl) (by obtain ⟨k9, h9, -⟩ := Vm.findClass_spec hcl; exact ⟨k9, h9⟩) pre x suf hsplit (fun z hz => Or.inl (hpass z hz)) hx (Or.inl h0)
  obtain ⟨t, a1, b1⟩ := kk (T.setVm vm') hT X'
  exact ⟨t, st.trans a1, b1⟩
/-- an object of the world is thrown -/
theorem mm_thrown (C : mCx p l s m args meth c cc nL own G A) (S : mW G A s M H locs) {ci : Nat} {Cn : String} {T : u_T} {N : Nat} (hc : mCl[ci]? = some (Cn, T, N)) {q : Nat} (hdg : decode cc pc = .ok (.athrow, 1)) (hi : ist M q ci) (kk : ∀ ce : Cell, H[q]? = some ce → ce.vm = .none → s.vm.findClass Cn = some ce.cls → vx_W p l e R s m args below meth c H locs cells slots Q (F0 m pc ls rest) q) : W p l e R s m args below meth c H locs cells slots Q (F0 m pc ls (.ref q :: rest)) := by
  obtain ⟨fs, hM⟩ := hi
  obtain ⟨cell, q1, q2, -, -, q5⟩ := S.obj hM hc
  have q3 := (q5 rfl).1
  exact vx_athrow C.hx C.hb hdg (kk cell q1 q3 (by rw [q2]; exact (C.kt.1 ci _ hc).2.1))
theorem mm_pass0 {E : String} : ∀ z ∈ ([] : List ExceptionTableEntry), covers z pc = false ∨ (z.catchType ≠ 0 ∧ ∃ nm : String, (Cond.classLink own z.catchType nm).before args s = true ∧ va_Nc E nm s) := fun z hz => by cases hz
theorem mm_pass1 (C : mCx p l s m args meth c cc nL own G A) {E nm : String} {x : ExceptionTableEntry} {pre : List ExceptionTableEntry} (h0 : x.catchType ≠ 0) (hl : Cond.classLink own x.catchType nm ∈ lw_all) (hn : (E, nm) ∈ mNcl) (h : ∀ z ∈ pre, covers z pc = false ∨ (z.catchType ≠ 0 ∧ ∃ nm : String, (Cond.classLink own z.catchType nm).before args s = true ∧ va_Nc E nm s)) : ∀ z ∈ x :: pre, covers z pc = false ∨ (z.catchType ≠ 0 ∧ ∃ nm : String, (Cond.classLink own z.catchType nm).before args s = true ∧ va_Nc E nm s) := by
  intro z hz
  rcases List.mem_cons.mp hz with rfl | hz
  · exact Or.inr ⟨h0, nm, C.ts _ hl, C.kt.2.2.2.2.2.1 _ hn⟩
  · exact h z hz
theorem mm_pass2 {E : String} {x : ExceptionTableEntry} {pre : List ExceptionTableEntry} (hc : covers x pc = false) (h : ∀ z ∈ pre, covers z pc = false ∨ (z.catchType ≠ 0 ∧ ∃ nm : String, (Cond.classLink own z.catchType nm).before args s = true ∧ va_Nc E nm s)) : ∀ z ∈ x :: pre, covers z pc = false ∨ (z.catchType ≠ 0 ∧ ∃ nm : String, (Cond.classLink own z.catchType nm).before args s = true ∧ va_Nc E nm s) := by
  intro z hz
  rcases List.mem_cons.mp hz with rfl | hz
  · exact Or.inl hc
  · exact h z hz
end MR10
/-- Throwable.getCause of a RouteException -/
def gca (M : mM) (a : Nat) (K : Nat → Prop) : Prop := ∃ (fs : List Value) (v : Nat), M a = some (true, .inr (12, fs)) ∧ fs[0]? = some (.ref v) ∧ v ≠ a ∧ K v
section MR11
variable {p : Program} {l : Launch} {e : Env} {R : Room} {s : State} {m : MethodId} {args : Array Value} {below : List Frame} {meth : Method} {c : Code} {H : Heap} {locs : List Loc} {cells slots : Nat} {Q : State → Prop}
variable {cc : ByteArray} {nL : Nat} {own : String} {G : mG} {A : Nat → Prop} {M : mM} {pc : Nat} {ls : Array Slot} {rest : List Value} {a : Nat}
theorem mm_callVU {T : State} (X : Stand p l e R s m args below meth c T locs cells slots) (hexec : p.tables.exec = Jvm.exec) {own C owner : String} {index : Nat} {x y : MethodName}
    (hown : s.vm.findClass own = some m.cls) (hlink : (Cond.methodLink own index x).before args s = true) (hsame : (Cond.sameMethod x.cls owner x.name x.desc).before args s = true)
    (hd0 : va_Decl s ⟨owner, x.name, x.desc⟩) (howner : owner ≠ "java/lang/invoke/MethodHandle" ∧ owner ≠ "java/lang/invoke/VarHandle")
    (hsel : (Cond.selects C x y).before args s = true) (hinst : (Cond.instanceMethod y).before args s = true)
    {W : Nat} {Pre : Pt → Array Value → Prop} {Post : Pt → Array Value → Option Value → Pt → Prop} (hK : Back l R p e below s args y 3 W Pre Post)
    {b : Addr} {cellB : Cell} (hcell : T.heap[b]? = some cellB) (hobj : cellB.vm.isStatics = false) (hcls : s.vm.findClass C = some cellB.cls)
    {g : JFrame} (hg : g.method = m) (hsize : g.locals.size = c.maxLocals) {argsL rest : List Value} (hlen : ∀ sig, parseMethodDescriptor x.desc = some sig → argsL.length = sig.parameters.length)
    (hstack : g.stack = argsL.reverse ++ .ref b :: rest) (hW : 2 * g.monitorRoom + (rest.map fun v => v.category).sum ≤ W) (hdg : decode c.code g.pc = .ok (.invokevirtual index, 3))
    (hpre : ∀ vm₁, s.WarmedH vm₁ → Pre ⟨T.setVm vm₁, locs, cells, slots⟩ (Value.ref b :: argsL).toArray) :
    ∃ (v : Option Value) (vm₁ : Vm) (B : Pt), s.WarmedH vm₁ ∧ Stand p l e R s m args below meth c B.U B.locs B.cells B.slots ∧ Post ⟨T.setVm vm₁, locs, cells, slots⟩ (Value.ref b :: argsL).toArray v B ∧
      ∀ target, Steps p.tables e below (B.U.setTop { g with pc := g.pc + 3, stack := v.toList ++ rest }) target → Steps p.tables e below (T.setTop g) target := by
  obtain ⟨r0, r, hn, hrm, hstR, hsigR⟩ := hd0
  obtain ⟨cn, ck, r1, hcn, hck, hni, hf, hn1⟩ := Cond.sameMethod_found hsame
  cases hn.symm.trans hn1
  obtain ⟨mk, methM, hnamed, hmethM, -, habM⟩ := Cond.instanceMethod_spec hinst
  obtain ⟨c2, r2, m2, q1, q2, q3, q4, kP, hkP, hkPi⟩ := Cond.selects_spec hsel
  cases hcls.symm.trans q1
  cases hf.symm.trans q2
  cases hnamed.symm.trans q3
  have hselP : selectMethod e.platform s.vm cellB.cls r0 = .method mk := by rw [Launch.admits_selectMethod X.admits]; exact q4
  obtain ⟨vm₁, X₁, hstep₁⟩ := X.invokevirtualUp hexec hown hlink hsame howner hn hrm hstR (a := b) (cell := cellB) hcell
    (fun z h => by rw [h] at hobj; cases hobj) hselP hmethM habM hkP hkPi (g := g) hg (argsL := argsL) (rest := rest) (hlen _ hsigR) hstack hdg
  obtain ⟨v, B, X', hpost, hsteps⟩ := hK m meth c ⟨T.setVm vm₁, locs, cells, slots⟩ { g with stack := rest } (.invokevirtual index) mk (Value.ref b :: argsL).toArray X₁ hg hsize hdg hW (X₁.named hnamed) (hpre vm₁ X₁.warmed)
  exact ⟨v, vm₁, B, X₁.warmed, X', hpost, fun target h => hstep₁ _ fun acts => by rw [doInvoke_state]; exact hsteps.trans h⟩
/-- the words that the walk of getCause leans on -/
abbrev gcN : MethodName := ⟨"java/lang/Throwable", "getCause", "()Ljava/lang/Throwable;"⟩
def gcWs : List Cond := [Cond.codeSync gcN prog_45_method_8_code 1 (some (.object "java/lang/Throwable")), Cond.instanceMethod gcN, Cond.fieldLink "java/lang/Throwable" 7 "java/lang/Throwable" "cause" "Ljava/lang/Throwable;"]
def gcP (a v : Nat) (h : Heap) (as : Array Value) (U : State) : Prop := as = #[.ref a] ∧ U.heap = h ∧ ∃ (cell : Cell) (cf : ClassId) (k : Class) (i : Nat) (f : Field), h[a]? = some cell ∧ U.fieldFound? "java/lang/Throwable" "cause" "Ljava/lang/Throwable;" = some (cf, k, i, f) ∧ f.isStatic = false ∧ cell.vm = .none ∧ cell.monitor = {} ∧ cell.slots[f.slot]? = some (.ref v)
theorem dgc0 : decode prog_45_method_8_code 0 = .ok (.aload_n 0, 1) := by decide +kernel
theorem dgc1 : decode prog_45_method_8_code 1 = .ok (.getfield 7, 3) := by decide +kernel
theorem dgc4 : decode prog_45_method_8_code 4 = .ok (.aload_n 0, 1) := by decide +kernel
theorem dgc5 : decode prog_45_method_8_code 5 = .ok (.if_acmp .ne 7, 3) := by decide +kernel
theorem dgc12 : decode prog_45_method_8_code 12 = .ok (.aload_n 0, 1) := by decide +kernel
theorem dgc13 : decode prog_45_method_8_code 13 = .ok (.getfield 7, 3) := by decide +kernel
theorem dgc16 : decode prog_45_method_8_code 16 = .ok (.areturn, 1) := by decide +kernel
abbrev gcG (m : MethodId) (a pc : Nat) (st : List Value) : JFrame := { method := m, pc := pc, locals := #[.val (.ref a)], stack := st, locked := some a, monitorRoom := 1 }
theorem gcWalk {s' : State} {T0 T1 T2 V : State} {a v : Nat} (hne : v ≠ a) (hexec : p.tables.exec = Jvm.exec) (hbytes : c.code = prog_45_method_8_code) (hret : meth.sig.returnType = some (.object "java/lang/Throwable"))
    (X0 : Stand p l e R s' m args below meth c T0 locs cells slots) (X1 : Stand p l e R s' m args below meth c T1 locs cells slots) (X2 : Stand p l e R s' m args below meth c T2 locs cells slots)
    (st1 : ∀ tg, Steps p.tables e below (T1.setTop (gcG m a 4 [.ref v])) tg → Steps p.tables e below (T0.setTop (gcG m a 1 [.ref a])) tg) (st2 : ∀ tg, Steps p.tables e below (T2.setTop (gcG m a 16 [.ref v])) tg → Steps p.tables e below (T1.setTop (gcG m a 13 [.ref a])) tg)
    (hr : ∀ (f : JFrame) (acts : List Action), f.method = m → f.locked = some a → f.entered = [] → (doReturn e (T2.setTop f) acts (some (.ref v))).1 = V) : Steps p.tables e below (T0.setTop (gcG m a 0 [])) V := by
  have hmeth' : T2.vm.method? m = some meth := X2.method'
  jvm_step X0.here [X0.here.top, hexec, hbytes, dgc0, Value.isRef]
  refine st1 _ ?_
  jvm_step X1.here [X1.here.top, hexec, hbytes, dgc4, Value.isRef]
  jvm_step X1.here [X1.here.top, hexec, hbytes, dgc5, Value.asRef?, Op.if_acmp.holds, hne]
  jvm_step X1.here [X1.here.top, hexec, hbytes, dgc12, Value.isRef]
  refine st2 _ ?_
  jvm_step X2.here [X2.here.top, hexec, hbytes, dgc16, hmeth', hret, narrow, Value.isRef, FieldType.isReference]
  first | (intro acts; rw [hr _ acts rfl rfl rfl]) | rw [hr _ _ rfl rfl rfl]
  exact Steps.refl _
theorem gcMet (l : Launch) {rm : Room} {a v : Nat} {h : Heap} (hne : v ≠ a) : MetFree l gcN (headSpec gcWs rm) (gcP a v h) (fun _ _ _ _ _ => True) (fun _ U o U' => o = .returned (some (.ref v)) ∧ FrameEnd U o U' [] 0 0) := by
  intro p e ha hc hk s m args below hf happ hP _
  obtain ⟨hrun, hable, halone, hname, hhears, hinit, hroom, hpre⟩ := (Spec.appliesLoose_iff hf).mp happ
  have wd : ∀ w ∈ gcWs, w.before args s = true := fun w hw => atoms_spec (ws := gcWs) hpre w hw
  obtain ⟨meth, c, hmeth, hcode, hbytes, hlocals, hret, hlocks, -, -⟩ := Cond.codeSync_spec hname (wd _ (List.mem_cons_self ..))
  obtain ⟨m9, meth9, hn9, hm9, hst, -⟩ := Cond.instanceMethod_spec (wd (Cond.instanceMethod gcN) (by simp [gcWs]))
  cases hname.symm.trans hn9
  cases hmeth.symm.trans hm9
  obtain ⟨rfl, hh, cell, cf, k, i, f, hcell, hi, hfs, hv0, hm0, hsl⟩ := hP
  subst hh
  have harg : (#[.ref a] : Array Value)[0]? = some (.ref a) := rfl
  have hfree : cell.monitor.owner = none := by rw [hm0]
  have hcount : cell.monitor.count = 0 := by rw [hm0]
  have hent : cell.enterable s.cur := Or.inl ⟨hfree, hcount⟩
  have hcur := State.cur_lt_of_frames hf
  have hcur' : (s.setCell a (cell.withEntry s.cur)).cur < (s.setCell a (cell.withEntry s.cur)).threads.size := hcur
  have hf1 : ((s.setCell a (cell.withEntry s.cur)).setFrames (.java (entryFrameSync m #[.ref a] 1 a) :: below)).frames = .java (entryFrameSync m #[.ref a] 1 a) :: below := State.frames_setFrames _ hcur'
  have ht1 := State.topJava?_of_frames hf1
  have hplain : ((s.setCell a (cell.withEntry s.cur)).setFrames (.java (entryFrameSync m #[.ref a] 1 a) :: below)).plainMethod m := by
    refine State.plainMethod.of_name ?_
    intro k hk
    obtain ⟨k', hk', hn⟩ := className_of_methodNamed hname
    cases (show s.vm.classes[m.cls]? = some k from hk).symm.trans hk'
    rw [hn]; decide
  have hAt : At ((s.setCell a (cell.withEntry s.cur)).setFrames (.java (entryFrameSync m #[.ref a] 1 a) :: below)) m c below :=
    ⟨by rw [ht1]; rfl, ⟨[], by rw [hf1]; rfl⟩, hrun, by simpa using hable, by simpa using halone,
      by rw [State.code?_eq]; simp [State.setFrames, State.setCell, hmeth, hcode], hplain⟩
  have hexec : p.tables.exec = Jvm.exec := by cases p <;> rfl
  have hown : (s.setCell a (cell.withEntry s.cur)).vm.findClass "java/lang/Throwable" = some m.cls := (findClass_of_methodNamed hname :)
  obtain ⟨t0, ht0, -⟩ := State.frames_cons hf
  have X0 : Stand p l e rm (s.setCell a (cell.withEntry s.cur)) m #[.ref a] below meth c ((s.setCell a (cell.withEntry s.cur)).setFrames (.java (entryFrameSync m #[.ref a] 1 a) :: below)) [] 0 0 := by
    refine ⟨ha, hc, hk, hf, by rw [State.hasRoom_setCell (x := cell.withEntry s.cur) hcell rfl]; exact hroom, hhears, hmeth, hcode, hAt, by rw [hf1]; rfl,
      State.WarmedH.refl (s.setCell a (cell.withEntry s.cur)), by rw [State.stackLimits_setFrames], by rw [State.stackBytes_setFrames], ?_⟩
    exact (State.sameButNew.refl (s.setCell a (cell.withEntry s.cur)) (x := t0) ht0).setFrames (.java (entryFrameSync m #[.ref a] 1 a) :: below) hcur'
  have hlt : a < s.heap.size := (Array.getElem?_eq_some_iff.mp hcell).1
  have hcell1 : ((s.setCell a (cell.withEntry s.cur)).setFrames (.java (entryFrameSync m #[.ref a] 1 a) :: below)).heap[a]? = some (cell.withEntry s.cur) := by
    show (s.heap.setIfInBounds a (cell.withEntry s.cur))[a]? = _
    simp [hlt]
  have hlink : (Cond.fieldLink "java/lang/Throwable" 7 "java/lang/Throwable" "cause" "Ljava/lang/Throwable;").before #[.ref a] (s.setCell a (cell.withEntry s.cur)) = true := wd (Cond.fieldLink "java/lang/Throwable" 7 "java/lang/Throwable" "cause" "Ljava/lang/Throwable;") (by simp [gcWs])
  obtain ⟨vm1, X1, st1⟩ := X0.getfield hexec hown hlink (cf := cf) (k := k) (i := i) (f := f) hi hfs hcell1 (by show cell.vm ≠ _; rw [hv0]; exact fun z => by cases z) (v := .ref v) hsl (g := gcG m a 1 [.ref a]) rfl (rest := []) rfl (by rw [hbytes]; exact dgc1)
  obtain ⟨vm2, X2, st2⟩ := X1.getfield hexec hown hlink (cf := cf) (k := k) (i := i) (f := f) hi hfs hcell1 (by show cell.vm ≠ _; rw [hv0]; exact fun z => by cases z) (v := .ref v) hsl (g := gcG m a 13 [.ref a]) rfl (rest := []) rfl (by rw [hbytes]; exact dgc13)
  obtain ⟨fs, cellT, hT, hr, hrun2, hend, hW, hsame⟩ := X2.leaveSync hcell hent hlocks (v := some (.ref v)) (fun h => by rw [hret] at h; cases h)
  have hs : Steps p.tables e below (((s.setCell a (cell.withEntry s.cur)).setFrames (.java (entryFrameSync m #[.ref a] 1 a) :: below)).setTop (entryFrameSync m #[.ref a] 1 a)) (((((s.setCell a (cell.withEntry s.cur)).setFrames (.java (entryFrameSync m #[.ref a] 1 a) :: below)).setVm vm2).setCell a cellT.left).setFrames fs) := gcWalk hne hexec hbytes hret X0 X1 X2 st1 st2 hr
  have hstep : (stepThread p.tables e s).1 = ((s.setCell a (cell.withEntry s.cur)).setFrames (.java (entryFrameSync m #[.ref a] 1 a) :: below)).setTop (entryFrameSync m #[.ref a] 1 a) := by
    have hfull : e.platform.stackFull (s.setFrames below).me (s.setFrames below).frames (c.maxLocals + 2) = false := by
      obtain ⟨-, h1, -, h2⟩ := State.hasRoom_stack hroom
      rw [hf, List.length_cons] at h1
      rw [State.localsInUse_invoking hf hmeth hcode] at h2
      have hw := stackUse_le_stackWeight below
      rw [State.frames_setFrames _ hcur]
      simp only [vmFrameWords] at h2
      exact Platform.stackFull_eq_false (by rw [State.stackLimits_setFrames]; omega) (by rw [State.stackLimits_setFrames]; omega)
    rw [stepThread_invoking hf, (doInvoke_java_sync (s := s.setFrames below) (e := e) (meth := meth) (code := c) (a := a) (cell := cell) hmeth hcode hlocks hst harg hcell (Or.inl hfree) hfull).1,
      State.setTop_self ht1, hlocals]
    show (((s.setFrames below).setCell a (cell.withEntry s.cur)).setFrames (.java (entryFrameSync m #[.ref a] 1 a) :: ((s.setFrames below).setCell a (cell.withEntry s.cur)).frames)) = _
    rw [show ((s.setFrames below).setCell a (cell.withEntry s.cur)).frames = below from State.frames_setFrames _ hcur, State.setCell_setFrames, State.setFrames_setFrames]
  obtain ⟨n, hn, hw⟩ := Steps.head (tb := p.tables) (e := e) ⟨hrun, hable, halone⟩ ⟨[.invoking m #[.ref a]], hf, by simp, by simp⟩ (hstep ▸ hs)
  exact ⟨n, .returned (some (.ref v)), hw, hn ▸ hrun2, hn ▸ hend, rfl, ⟨_, rfl⟩, hn ▸ hW, hn ▸ hsame⟩
theorem gcBack {len W9 : Nat} {a v : Nat} {h : Heap} (hne : v ≠ a) (hframes : 2 ≤ R.frames) (hlocals : W9 + 76 ≤ R.locals) (hws : ∀ w ∈ gcWs, ∀ (a' : Array Value) (U : State), s.WarmedH U.vm → w.before a' U = true) (hinit : ∀ (a' : Array Value) (U : State), s.WarmedH U.vm → (Cond.initialized "java/lang/Throwable").before a' U = true) :
    Back l R p e below s args gcN len W9 (fun A as => A.cells ≤ R.cells ∧ A.slots ≤ R.slots ∧ gcP a v h as A.U) (fun A _ w B => w = some (.ref v) ∧ B.U.heap = h ∧ B.locs = A.locs ∧ B.cells = A.cells ∧ B.slots = A.slots) := by
  intro m meth c A g ig mk a' X hg hsize hdg hW hn hp
  have h1 : (headSpec gcWs (mRm 1 0)).pre.before a' A.U = true := atoms_intro fun w hw => hws w hw _ _ X.warmed
  have h2 : (Cond.codeSync gcN prog_45_method_8_code 1 (some (.object "java/lang/Throwable"))).before a' A.U = true := hws _ (List.mem_cons_self ..) _ _ X.warmed
  have h3 : (Cond.initialized "java/lang/Throwable").before a' A.U = true := hinit _ _ X.warmed
  obtain ⟨hp1, hp2, hP⟩ := hp
  have h4 : A.cells + (headSpec gcWs (mRm 1 0)).room.cells ≤ R.cells := hp1
  have h5 : A.slots + (headSpec gcWs (mRm 1 0)).room.slots ≤ R.slots := hp2
  obtain ⟨U, Ls, c0, s0⟩ := A
  dsimp only [Pt.U, Pt.locs, Pt.cells, Pt.slots] at h1 h2 h3 h4 h5 X hn hP ⊢
  have hPc : gcP a v h a' (U.calling g mk a') := hP
  obtain ⟨methY, cY, hmY, hcY, -, hlY, -, -, -, -⟩ := Cond.codeSync_spec hn h2
  obtain ⟨kY, hkY, -⟩ := className_of_methodNamed hn
  have hinitY : kY.init = .initialized := Cond.initialized_spec (findClass_of_methodNamed hn) hkY h3
  have h : At U g.method c below := by rw [hg]; exact X.here
  have happ : (headSpec gcWs (mRm 1 0)).appliesLoose gcN e.platform (U.calling g mk a') = true :=
    Spec.appliesLoose_calling (g := g) h hdg hn hkY hinitY
      (X.room_calling (g := g) (R' := (headSpec gcWs (mRm 1 0)).room) hsize hmY hcY hframes (by rw [hlY]; show _ + (1 + 11) + 64 ≤ _; omega) h4 h5) h1
  obtain ⟨mid, hmid⟩ := h.above
  have hfr : (U.setTop g).frames = (.java g :: mid) ++ below := by rw [State.frames_setTop' g h.top, hmid]; rfl
  obtain ⟨o, s₂, hsteps, -, hend, hq⟩ := Steps.callFree (gcMet l (rm := mRm 1 0) hne) p X.admits X.cas X.clock (acts := []) hfr happ hPc trivial
  have hq' : o = .returned (some (.ref v)) ∧ FrameEnd (U.calling g mk a') o s₂ [] 0 0 := hq
  obtain ⟨ho, hfe⟩ := hq'
  subst ho
  rw [State.frames_setTop' g h.top] at hend
  obtain ⟨g₀, hg0⟩ := Option.isSome_iff_exists.mp h.top
  obtain ⟨r, hr⟩ := State.topJava?_eq_some.mp hg0
  have hr' : (({ U with heap := s₂.heap, slotsUsed := s₂.slotsUsed } : State).setVm s₂.vm).frames = .java g₀ :: r := hr
  obtain ⟨-, hW₂, hsm⟩ := id hfe
  have hsize9 := vx_frame (U := s₂) hsm
  obtain ⟨e2, q2, q3, q4, q5, q6⟩ := id hsm
  have e3 : s₂ = ({ (U.calling g mk a').setFrames s₂.frames with heap := s₂.heap, slotsUsed := s₂.slotsUsed } : State).setVm s₂.vm := by
    have : s₂ = ({ s₂ with vm := (U.calling g mk a').vm } : State).setVm s₂.vm := rfl
    rw [e2] at this
    exact this
  obtain ⟨c₂, i₂, len₂, hc₂, hd₂, hf₂⟩ := hend
  have hW' : U.WarmedH s₂.vm := hW₂
  have hcc : c₂ = c := by
    have h1 : s₂.code? g.method = U.code? g.method := by
      rw [State.code?_eq, State.code?_eq, hW'.alike.method?]
    exact Option.some.inj (hc₂.symm.trans (h1.trans h.code))
  subst hcc
  have hlen : len₂ = len := by rw [hdg] at hd₂; cases hd₂; rfl
  subst hlen
  have hs₂ : s₂ = (({ U with heap := s₂.heap, slotsUsed := s₂.slotsUsed } : State).setVm s₂.vm).setTop { g with pc := g.pc + len₂, stack := [Value.ref v] ++ g.stack } := by
    refine e3.trans ?_
    rw [hf₂, State.calling_eq h.top, State.setFrames_setFrames, State.setTop_of_frames _ hr', hr]
    rfl
  have hsame : U.sameButNew ({ U with heap := s₂.heap, slotsUsed := s₂.slotsUsed } : State) [] 0 0 := by
    refine ⟨?_, q2, q3, q4, q5, q6⟩
    obtain ⟨t, ht, -⟩ := State.frames_cons hr
    show ({ U with heap := s₂.heap, slotsUsed := s₂.slotsUsed } : State) = { U.setFrames U.frames with heap := s₂.heap, slotsUsed := s₂.slotsUsed }
    rw [State.setFrames_self ht]
  subst hg
  refine ⟨some (.ref v), ⟨(({ U with heap := s₂.heap, slotsUsed := s₂.slotsUsed } : State).setVm s₂.vm), Ls, c0, s0⟩, ?_, ⟨rfl, ?_, rfl, rfl, rfl⟩, ?_⟩
  · have := X.same.trans (hsame.setVm s.vm)
    rw [List.append_nil] at this
    exact ⟨X.admits, X.cas, X.clock, X.frames, X.room, X.hears, X.method, X.code, (X.here.setHeapUsed s₂.heap s₂.slotsUsed).setVm hW'.alike, X.tail, State.WarmedH.trans X.warmed hW', X.limits, X.bytes, this⟩
  · obtain ⟨-, hh, -⟩ := hP
    subst hh
    refine Array.ext_getElem? fun j => ?_
    rcases Nat.lt_or_ge j U.heap.size with hj | hj
    · exact hsize9.2 j hj (fun z hz => by cases hz)
    · have hsz : s₂.heap.size ≤ U.heap.size := q3
      rw [Array.getElem?_eq_none hj]
      exact Array.getElem?_eq_none (Nat.le_trans hsz hj)
  · show Steps p.tables e below _ ((({ U with heap := s₂.heap, slotsUsed := s₂.slotsUsed } : State).setVm s₂.vm).setTop { g with pc := g.pc + len₂, stack := [Value.ref v] ++ g.stack })
    rw [← hs₂]
    exact hsteps
theorem mm_getCause (C : mCx p l s m args meth c cc nL "Hidecount$RouteException" G A) (S : mW G A s M H locs) (hml : c.maxLocals = ls.size) {K : Nat → Prop} (h : gca M a K) (hf : 2 ≤ R.frames) (hl : 120 ≤ R.locals) (hrm : (rest.map fun v => v.category).sum ≤ 8) (hdg : decode cc pc = .ok (.invokevirtual 7, 3)) {k r b : Nat} (hR1 : R.cells = b) (hR2 : R.slots = b) (hk : k + r ≤ b)
    (kk : ∀ v, K v → W p l e R s m args below meth c H locs k k Q (F0 m (pc + 3) ls (.ref v :: rest))) : W p l e R s m args below meth c H locs k k Q (F0 m pc ls (.ref a :: rest)) := by
  obtain ⟨fs, v, hM, hv, hne, hK⟩ := h
  have hc : mCl[12]? = some (RX15, TX15, 6) := rfl
  obtain ⟨cell, q1, q2, -, q4', q5'⟩ := S.obj hM hc
  obtain ⟨q3, q5, q6⟩ := q5' rfl
  have q4 := fun k (hk : k < 6) => q4' k hk (Nat.lt_of_lt_of_le hk q6)
  obtain ⟨hS, hfc, kC, hkC, hkind⟩ := C.kt.1 12 _ hc
  obtain ⟨cf, kf, fi, f, hi, hsl⟩ := hS 0 (by decide)
  obtain ⟨f1, f2, -⟩ := u_facts hfc hkC (u_lays C.ts in_X15 (k := 0) (by decide)) hi
  have hslot : cell.slots[f.slot]? = some (.ref v) := by
    rw [hsl, q4 0 (by decide)]
    simp [vp_V, hv]
  intro T hT X
  subst hT
  have hwd : ∀ w ∈ gcWs, ∀ (a' : Array Value) (U : State), s.WarmedH U.vm → w.before a' U = true := by
    have h9 : GoodIn lw_all gcWs := lw_good (by
      intro w hw
      simp only [gcWs, List.mem_cons, List.not_mem_nil, or_false] at hw
      rcases hw with rfl | rfl | rfl
      · exact q1438
      · exact q1437
      · exact q471)
    exact pay_in C.ts h9
  have hB := gcBack (l := l) (R := R) (p := p) (e := e) (below := below) (args := args) (s := s) (len := 3) (W9 := 8) (a := a) (h := T.heap) hne hf (by omega) hwd (fun a' U hW => word_at hW (Or.inl rfl) (C.ts _ q59))
  obtain ⟨v', vm₁, ⟨U', l2, c2, s2⟩, hW₁, X', ⟨e0, e1, e2, e3, e4⟩, st⟩ := mm_callVU X C.hx (C := "Hidecount$RouteException") (owner := "java/lang/Throwable") (x := ⟨"Hidecount$RouteException", "getCause", "()Ljava/lang/Throwable;"⟩) C.hown (C.ts _ q1433) (C.ts _ q1434) (va_Decl.abs (C.nw q1435 rfl)) (by decide) (C.ts _ q1436) (C.ts _ q1437) hB q1 (by rw [q3]; rfl) (by rw [q2]; exact hfc) (g := F0 m pc ls (.ref a :: rest)) rfl hml.symm (argsL := []) (rest := rest) (fun sig h => by cases (show parseMethodDescriptor "()Ljava/lang/Throwable;" = some sig from h).symm.trans (by decide +kernel : parseMethodDescriptor "()Ljava/lang/Throwable;" = some ⟨[], some (.object "java/lang/Throwable")⟩); rfl) rfl (by show 2 * 0 + _ ≤ 8; omega) (by rw [C.hb]; exact hdg)
    (fun vm₁ hW₁ => ⟨by show k ≤ R.cells; omega, by show k ≤ R.slots; omega, rfl, rfl, cell, cf, (State.fieldFound?_setVm (s := s) hW₁.alike hi).choose, fi, f, q1, (State.fieldFound?_setVm (s := s) hW₁.alike hi).choose_spec.1, f1, q3, q5, hslot⟩)
  dsimp only [Pt.U, Pt.locs, Pt.cells, Pt.slots] at X' e1 e2 e3 e4 st
  subst e2; subst e3; subst e4
  rw [e0] at st
  obtain ⟨t, a1, b1⟩ := kk v hK U' e1 X'
  exact ⟨t, st t a1, b1⟩
end MR11
/-- a walk from a method's entry to its end -/
def mBody (l : Launch) (y : MethodName) (cc : ByteArray) (maxL : Nat) (ret : Option FieldType) (L b : Nat) (G : mG) (av : List Value) (M : mM) (PP : Option Value → mM → Prop) (X : String → Nat → mM → Prop) : Prop :=
  ∀ (p : Program) (e : Env) (s : State) (m : MethodId) (args : Array Value) (below : List Frame) (meth : Method) (c : Code) (ls : Array Slot), mCx p l s m args meth c cc maxL y.cls G (mA M s.heap.size) → meth.sig.returnType = ret → lv_has ls maxL (lv_args 0 av) → mW G (mA M s.heap.size) s M s.heap [] →
      W p l e (mRm L b) s m args below meth c s.heap [] 0 0 (vx_MQ below (mQ G (mA M s.heap.size) PP) (mXC G (mA M s.heap.size) X) args s b b (mA M s.heap.size)) (F0 m 0 ls [])
/-! THE FRAME RULE: a contract in a part of the world holds in the whole -/
def mUn (Ma Mb : mM) : mM := fun q => match Ma q with | some x => some x | none => Mb q
theorem mUn_l {Ma Mb : mM} {q : Nat} {x : Bool × mE} (h : Ma q = some x) : mUn Ma Mb q = some x := by simp [mUn, h]
theorem mUn_r {Ma Mb : mM} {q : Nat} (h : Ma q = none) : mUn Ma Mb q = Mb q := by simp [mUn, h]
theorem mUn_cases {Ma Mb : mM} {q : Nat} {x : Bool × mE} (h : mUn Ma Mb q = some x) : Ma q = some x ∨ (Ma q = none ∧ Mb q = some x) := by
  cases ha : Ma q with
  | some y => rw [mUn_l ha] at h; exact Or.inl (by rw [h])
  | none => rw [mUn_r ha] at h; exact Or.inr ⟨rfl, h⟩
theorem mMet.frame {l : Launch} {y : MethodName} {ws : List Cond} {L b : Nat} {G : mG} {av : List Value} {Ma Mb : mM} {P : Option Value → mM → Prop} {X : String → Nat → mM → Prop} (hd : ∀ q, Ma q ≠ none → Mb q = none) (h : mMet l y ws L b G av Ma P X) :
    mMet l y ws L b G av (mUn Ma Mb) (fun v M => ∃ M1, P v M1 ∧ M = mUn M1 Mb ∧ ∀ q e, M1 q = some (true, e) → Mb q = none) (fun E a M => ∃ M1, X E a M1 ∧ M = mUn M1 Mb ∧ ∀ q e, M1 q = some (true, e) → Mb q = none) := by
  intro sz p e ha hc hk s m args below hf happ hP hK
  obtain ⟨rfl, hsz, hPm, hT, hS⟩ := hP
  have hPa : mP G Ma s.heap := fun a w e' hM => hPm a w e' (mUn_l hM)
  have hA : ∀ q, mA Ma sz q → mA (mUn Ma Mb) sz q := by
    rintro q (⟨e', h1⟩ | h1)
    · exact Or.inl ⟨e', mUn_l h1⟩
    · exact Or.inr h1
  have hMb : ∀ q x, Mb q = some x → Ma q = none := fun q x hx => by
    cases hq : Ma q with
    | none => rfl
    | some y => rw [hd q (by rw [hq]; exact fun z => by cases z)] at hx; cases hx
  have hlt : ∀ q x, Mb q = some x → q < sz := fun q x hx => by
    obtain ⟨w, e'⟩ := x
    rw [← hsz]
    exact (hPm q w e' ((mUn_r (hMb q _ hx)).trans hx)).lt
  have hnA : ∀ q x, Mb q = some x → ¬ mA Ma sz q := by
    rintro q x hx (⟨e', h1⟩ | h1)
    · rw [hMb q x hx] at h1; cases h1
    · exact absurd (hlt q x hx) (Nat.not_lt.mpr h1)
  have conv : ∀ {st t : State} {M1 : mM}, st.heap = s.heap → mP G M1 t.heap → (∀ q e, M1 q = some (true, e) → mA Ma sz q) → va_F (mA Ma sz) st t → (mP G (mUn M1 Mb) t.heap ∧ (∀ q e, mUn M1 Mb q = some (true, e) → mA (mUn Ma Mb) sz q) ∧ (∀ q e, M1 q = some (true, e) → Mb q = none)) := by
    intro st t M1 hst h1 h2 hF
    refine ⟨fun q w e' hM => ?_, fun q e' hM => ?_, fun q e' hM => ?_⟩
    · rcases mUn_cases hM with h3 | ⟨-, h3⟩
      · exact h1 q w e' h3
      · refine (hPm q w e' ((mUn_r (hMb q _ h3)).trans h3)).kept ?_
        rw [← hst]
        exact hF.2 q (by rw [hst, hsz]; exact hlt q _ h3) (hnA q _ h3)
    · rcases mUn_cases hM with h3 | ⟨-, h3⟩
      · exact hA q (h2 q e' h3)
      · exact Or.inl ⟨e', (mUn_r (hMb q _ h3)).trans h3⟩
    · cases hb : Mb q with
      | none => rfl
      | some x => exact absurd (h2 q e' hM) (hnA q x hb)
  have hFm : ∀ {st t : State}, va_F (mA Ma sz) st t → va_F (mA (mUn Ma Mb) sz) st t := fun hF => ⟨hF.1, fun x h1 h2 => hF.2 x h1 fun h3 => h2 (hA x h3)⟩
  obtain ⟨n, o, h1, h2, h3, h4⟩ := h sz p e ha hc hk s m av.toArray below hf happ ⟨rfl, hsz, hPa, hT, hS.narrow hA⟩ hK
  refine ⟨n, o, h1, h2, h3, ?_⟩
  rcases h4 with ⟨⟨⟨v, M1, hv, hp, hP1, hw⟩, hF⟩, Ls, hfe, hLs⟩ | ⟨q, ho, E, ce, Ls, ⟨⟨M1, hx, hP1, hw⟩, hF⟩, r1, r2, r3, r4, r5, r6⟩
  · obtain ⟨c1, c2, c3⟩ := conv rfl hP1 hw hF
    exact Or.inl ⟨⟨⟨v, mUn M1 Mb, hv, ⟨M1, hp, rfl, c3⟩, c1, c2⟩, hFm hF⟩, Ls, hfe, fun z hz => hA _ (hLs z hz)⟩
  · obtain ⟨c1, c2, c3⟩ := conv rfl hP1 hw hF
    exact Or.inr ⟨q, ho, E, ce, Ls, ⟨⟨mUn M1 Mb, ⟨M1, hx, rfl, c3⟩, c1, c2⟩, hFm hF⟩, r1, r2, r3, r4, r5, fun z hz => hA _ (r6 z hz)⟩
section MR12
variable {p : Program} {l : Launch} {e : Env} {R : Room} {s : State} {m : MethodId} {args : Array Value} {below : List Frame} {meth : Method} {c : Code} {H : Heap} {locs : List Loc} {cells slots : Nat} {Q : State → Prop}
variable {cc : ByteArray} {nL : Nat} {own : String} {G : mG} {A : Nat → Prop} {M : mM} {pc : Nat} {ls : Array Slot} {rest : List Value} {a : Nat}
/-- the script's ints (its class is known as an int[] alone) -/
theorem mm_iald13 (C : mCx p l s m args meth c cc nL own G A) (S : mW G A s M H locs) {i : Int32} {K : Int32 → Prop} (h : ldi M 13 a i K) (hdg : decode cc pc = .ok (.iaload, 1)) (kk : ∀ v, K v → W p l e R s m args below meth c H locs cells slots Q (F0 m (pc + 1) ls (.int v :: rest))) : W p l e R s m args below meth c H locs cells slots Q (F0 m pc ls (.int i :: .ref a :: rest)) := by
  obtain ⟨w, n, f, h1, h2, h3⟩ := h
  obtain ⟨cell, q1, q2, q3, q4, q5, q6, -⟩ := S.arr h1
  exact W.iald (v := .int (f i.toNatClampNeg)) C.hx C.hb q1 (mArr (C.kt.2.1 13 .int rfl).1 q2 q3) q4 (mIn q5.1 h2) (q6 _ (mLt h2)) rfl rfl hdg (kk _ h3)
end MR12
