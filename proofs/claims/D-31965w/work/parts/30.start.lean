/-! THE START: what the Statement gives of the tables and of the constants' cells, as the world that the walks stand on -/
def sNar (c : Cond) : Prop := c ∈ flatC (Jvm.Cond.and given_1 narrow_1)
theorem sKn {s : State} {args : Array Value} (hts : ∀ w ∈ lw_all, w.before args s = true) : ∀ q ∈ mCl, ∃ r : ClassId × (Nat → Nat), u_Kn s q.1 q.2.1 q.2.2 r.1 r.2 := by
  have h : ∀ {C : String} {T : u_T} {N n : Nat}, (∀ w ∈ u_ws C T N, w ∈ lw_all) → Cond.instantiable C n ∈ lw_all → ∃ r : ClassId × (Nat → Nat), u_Kn s C T N r.1 r.2 := fun hin hi => by
    obtain ⟨cC, iS, h⟩ := u_known hts hin (hts _ hi)
    exact ⟨(cC, iS), h⟩
  intro q hq
  simp only [mCl, List.mem_cons, List.not_mem_nil, or_false] at hq
  rcases hq with rfl | rfl | rfl | rfl | rfl | rfl | rfl | rfl | rfl | rfl | rfl | rfl | rfl | rfl | rfl | rfl | rfl | rfl | rfl | rfl | rfl
  · exact h in_X1 q95
  · exact h in_X2 q171
  · exact h in_X3 q198
  · exact h in_X4 q1660
  · exact h in_X5 q625
  · exact h in_X6 q1023
  · exact h in_X8 q1124
  · exact h in_X10 q1205
  · exact h in_X11 q1240
  · exact h in_X12 q1256
  · exact h in_X13 q1331
  · exact h in_X14 q1347
  · exact h in_X15 q1415
  · exact h in_X16 q1469
  · exact h in_X17 q1489
  · exact h in_X18 q1529
  · exact h in_J2 q107
  · exact h in_J4 q139
  · exact h in_J5 q506
  · exact h in_J21 q1271
  · exact h in_J23 q360
theorem sArrK {s : State} {cA : ClassId} {k : Class} {comp : ClassId} {ty : FieldType} (h1 : s.vm.classes[cA]? = some k) (h2 : k.kind = .array comp ty) : ArrOfT s cA ty := fun n z => ⟨fun q h => (by cases h), k, h1, comp, h2⟩
theorem sPrim {s : State} {args : Array Value} {ty : FieldType} (h : (Cond.arrayClass ty).before args s = true) (hra : ∀ cA, s.vm.findClass ("[" ++ ty.toString) = some cA → va_RA s cA ty) : ∃ cA, ArrOfT s cA ty ∧ va_RA s cA ty := by
  obtain ⟨c, k, comp, h1, h2, h3⟩ := Cond.arrayClass_spec h
  exact ⟨c, sArrK h2 h3, hra c h1⟩
theorem sObjA {s : State} {args : Array Value} {C : String} (h : (Cond.arrayOver (.object C)).before args s = true) : ∃ cA, ArrOfT s cA (.object C) ∧ va_RA s cA (.object C) := by
  obtain ⟨comp, c, k, h1, -, h3, h4, h5⟩ := Cond.arrayOver_spec h
  exact ⟨c, sArrK h3 h4, k, comp, h3, h4, h1, h5⟩
theorem sArrA {s : State} {t : FieldType} (h : mAO (.array t) s) : ∃ cA, ArrOfT s cA (.array t) ∧ va_RA s cA (.array t) := by
  obtain ⟨comp, c, k, h1, -, h3, h4, h5⟩ := mAO_spec h
  exact ⟨c, sArrK h3 h4, h5⟩
theorem sTy {s : State} {args : Array Value} (hts : ∀ w ∈ lw_tbl, w.before args s = true) {cI cS : ClassId} (hI : ArrOfT s cI (.object "java/lang/Integer")) (hS : ArrOfT s cS .int) : ∀ (k : Nat), ∃ cA, (∀ ty : FieldType, mTy[k]? = some ty → mRA s cA k ty) ∧ (k = 12 → cA = cI) ∧ (k = 13 → cA = cS) := by
  have ta : ∀ w ∈ lw_all, w.before args s = true := fun w hw => hts w (lw_all_tbl hw)
  have h1 : ∀ {k : Nat} {ty : FieldType}, mTy[k]? = some ty → k < 12 → (∃ cA, ArrOfT s cA ty ∧ va_RA s cA ty) → ∃ cA, (∀ ty : FieldType, mTy[k]? = some ty → mRA s cA k ty) ∧ (k = 12 → cA = cI) ∧ (k = 13 → cA = cS) := fun hk hlt ⟨cA, a, b⟩ => ⟨cA, fun ty h => by
    cases hk.symm.trans h
    exact ⟨a, fun _ => b⟩, fun z => by omega, fun z => by omega⟩
  intro k
  rcases k with _ | _ | _ | _ | _ | _ | _ | _ | _ | _ | _ | _ | _ | _ | k
  · exact h1 rfl (by decide) (sPrim (ta _ q135) fun _ h => h)
  · exact h1 rfl (by decide) (sPrim (ta _ q1818) fun _ h => h)
  · exact h1 rfl (by decide) (sPrim (ta _ q1481) fun _ h => h)
  · exact h1 rfl (by decide) (sPrim (ta _ q170) fun _ h => h)
  · exact h1 rfl (by decide) (sPrim (ta _ q2071) fun _ h => h)
  · exact h1 rfl (by decide) (sObjA (hts _ q713))
  · exact h1 rfl (by decide) (sObjA (hts _ q103))
  · exact h1 rfl (by decide) (sObjA (hts _ q105))
  · exact h1 rfl (by decide) (sArrA (hts _ q137))
  · exact h1 rfl (by decide) (sArrA (hts _ q1667))
  · exact h1 rfl (by decide) (sArrA (hts _ q1669))
  · exact h1 rfl (by decide) (sArrA (hts _ q1475))
  · exact ⟨cI, fun ty h => by cases h; exact ⟨hI, fun z => absurd z (by decide)⟩, fun _ => rfl, fun z => by omega⟩
  · exact ⟨cS, fun ty h => by cases h; exact ⟨hS, fun z => absurd z (by decide)⟩, fun z => by omega, fun _ => rfl⟩
  · refine ⟨cI, fun ty h => ?_, fun z => by omega, fun z => by omega⟩
    have h9 : mTy[k + 14]? = none := List.getElem?_eq_none (by show 14 ≤ k + 14; omega)
    cases h9.symm.trans h
def sFlW (q : String × MethodName × MethodName) : List Cond := [Cond.declares q.2.1, Cond.interfaceMethod q.2.1.cls q.2.1.cls q.2.1.name q.2.1.desc, Cond.publicMethod q.2.2, Cond.unhidden q.1 q.2.1.name q.2.1.desc, Cond.castable q.1 q.2.1.cls]
theorem sFl_in : (mFl.all fun q => (sFlW q).all fun w => decide (w ∈ lw_tbl)) = true := by decide +kernel
theorem sFl {s : State} {args : Array Value} (hts : ∀ w ∈ lw_tbl, w.before args s = true) : ∀ q ∈ mFl, va_Fw q.1 q.2.1 q.2.2 s := by
  intro q hq
  have h := List.all_eq_true.mp sFl_in q hq
  have h2 : ∀ w ∈ sFlW q, w.before args s = true := fun w hw => hts w (of_decide_eq_true (List.all_eq_true.mp h w hw))
  exact va_Fw.of (h2 _ (by simp [sFlW])) (h2 _ (by simp [sFlW])) (h2 _ (by simp [sFlW])) (h2 _ (by simp [sFlW])) (h2 _ (by simp [sFlW]))
theorem sAo_in : (mAo.all fun t => decide (Cond.arrayOver t ∈ lw_tbl)) = true := by decide +kernel
theorem sNc_in : (mNcl.all fun q => decide (Cond.not (.castable q.1 q.2) ∈ flatC (Jvm.Cond.and given_1 narrow_1))) = true := by decide +kernel
/-- two entries at one address have one kind -/
theorem sKindA {G : mG} {s : State} (hT : mKT G s) {w w' : Bool} {q t n t' n' : Nat} {x x' : mX5} (h : mAt G w q (.inl (t, n, x)) s.heap) (h' : mAt G w' q (.inl (t', n', x')) s.heap) {ty ty' : FieldType} (ht : mTy[t]? = some ty) (ht' : mTy[t']? = some ty') : ty = ty' := by
  obtain ⟨c1, a1, a2, -⟩ := h
  obtain ⟨c2, b1, b2, -⟩ := h'
  cases a1.symm.trans b1
  obtain ⟨-, k1, e1, cm1, e2⟩ := (hT.2.1 t ty ht).1 0 (fun _ => .null)
  obtain ⟨-, k2, f1, cm2, f2⟩ := (hT.2.1 t' ty' ht').1 0 (fun _ => .null)
  have e3 : s.vm.classes[G.2.1 t]? = some k1 := e1
  have f3 : s.vm.classes[G.2.1 t']? = some k2 := f1
  rw [← a2] at e3
  rw [← b2] at f3
  cases e3.symm.trans f3
  have := e2.symm.trans f2
  cases this
  rfl
theorem sKindO {G : mG} {s : State} (hT : mKT G s) {w w' : Bool} {q t n ci : Nat} {x : mX5} {fs : List Value} (h : mAt G w q (.inl (t, n, x)) s.heap) (h' : mAt G w' q (.inr (ci, fs)) s.heap) {ty : FieldType} (ht : mTy[t]? = some ty) : False := by
  obtain ⟨c1, a1, a2, -⟩ := h
  obtain ⟨r, c2, b0, b1, b2, -⟩ := h'
  cases a1.symm.trans b1
  obtain ⟨-, k1, e1, cm1, e2⟩ := (hT.2.1 t ty ht).1 0 (fun _ => .null)
  obtain ⟨-, kC, f1, f2⟩ := (hT.1 ci r b0).2
  have e3 : s.vm.classes[G.2.1 t]? = some k1 := e1
  rw [← a2] at e3
  rw [← b2] at f1
  cases e3.symm.trans f1
  cases e2.symm.trans f2
theorem sKindC {G : mG} {s : State} (hT : mKT G s) {w w' : Bool} {q ci ci' : Nat} {fs fs' : List Value} (h : mAt G w q (.inr (ci, fs)) s.heap) (h' : mAt G w' q (.inr (ci', fs')) s.heap) {r r' : vw_C} (hr : mCl[ci]? = some r) (hr' : mCl[ci']? = some r') : r.1 = r'.1 := by
  obtain ⟨r1, c1, a0, a1, a2, -⟩ := h
  obtain ⟨r2, c2, b0, b1, b2, -⟩ := h'
  cases a0.symm.trans hr
  cases b0.symm.trans hr'
  cases a1.symm.trans b1
  have e1 := (hT.1 ci r a0).2.1
  have f1 := (hT.1 ci' r' b0).2.1
  rw [← a2] at e1
  rw [← b2] at f1
  obtain ⟨k1, g1, g2⟩ := Vm.findClass_spec e1
  obtain ⟨k2, g3, g4⟩ := Vm.findClass_spec f1
  cases g1.symm.trans g3
  exact g2.symm.trans g4
/-- the world at the law's entry: the script at b; ArrayList's empty array, the Integer cache, a constant String (all to be read only) -/
def sM (G : mG) (b L : Nat) (xs : Nat → Int32) (ic : Nat → Nat) (bv : Nat) : mM := fun q =>
  if q = b then some (false, .inl (13, L, .inl xs))
  else if q = G.2.2 0 then some (false, .inl (5, 0, .inr (.inr (.inr (.inr fun _ => none)))))
  else if q = G.2.2 1 then some (false, .inl (12, 256, .inr (.inr (.inr (.inr fun j => some (ic j))))))
  else if q = G.2.2 2 then some (false, .inr (18, [.ref bv, .int 0]))
  else if q = bv then some (false, .inl (3, 5, .inl fun j => ([78, 69, 83, 87, 40] : List Int32).getD j 0))
  else if ∃ j, j < 256 ∧ q = ic j then some (false, .inr (19, [.int (Int32.ofNat ((List.range 256).findIdx fun j => decide (q = ic j)) - 128)]))
  else none
def sW0 (G : mG) (b L : Nat) (xs : Nat → Int32) (ic : Nat → Nat) (bv : Nat) (M : mM) : Prop :=
  M b = some (false, .inl (13, L, .inl xs)) ∧ M (G.2.2 0) = some (false, .inl (5, 0, .inr (.inr (.inr (.inr fun _ => none))))) ∧ M (G.2.2 1) = some (false, .inl (12, 256, .inr (.inr (.inr (.inr fun j => some (ic j)))))) ∧ M (G.2.2 2) = some (false, .inr (18, [.ref bv, .int 0])) ∧ M bv = some (false, .inl (3, 5, .inl fun j => ([78, 69, 83, 87, 40] : List Int32).getD j 0)) ∧ (∀ j, j < 256 → M (ic j) = some (false, .inr (19, [.int (Int32.ofNat j - 128)]))) ∧ ∀ q e, M q ≠ some (true, e)
theorem sW {G : mG} {s : State} {b L bv : Nat} {xs : Nat → Int32} {ic : Nat → Nat} (hT : mKT G s) (h1 : mAt G false b (.inl (13, L, .inl xs)) s.heap) (h2 : mAt G false (G.2.2 0) (.inl (5, 0, .inr (.inr (.inr (.inr fun _ => none))))) s.heap) (h3 : mAt G false (G.2.2 1) (.inl (12, 256, .inr (.inr (.inr (.inr fun j => some (ic j)))))) s.heap) (h4 : mAt G false (G.2.2 2) (.inr (18, [.ref bv, .int 0])) s.heap)
    (h5 : mAt G false bv (.inl (3, 5, .inl fun j => ([78, 69, 83, 87, 40] : List Int32).getD j 0)) s.heap) (h6 : ∀ j, j < 256 → mAt G false (ic j) (.inr (19, [.int (Int32.ofNat j - 128)])) s.heap) : sW0 G b L xs ic bv (sM G b L xs ic bv) ∧ mP G (sM G b L xs ic bv) s.heap := by
  have nA : ∀ {w w' : Bool} {q t n t' n' : Nat} {x x' : mX5} {ty ty' : FieldType}, mAt G w q (.inl (t, n, x)) s.heap → mAt G w' q (.inl (t', n', x')) s.heap → mTy[t]? = some ty → mTy[t']? = some ty' → ty ≠ ty' → False := fun a b c d e => e (sKindA hT a b c d)
  have b0 : G.2.2 0 ≠ b := fun z => nA (z ▸ h2) h1 rfl rfl (by decide)
  have b1 : G.2.2 1 ≠ b := fun z => nA (z ▸ h3) h1 rfl rfl (by decide)
  have b2 : G.2.2 2 ≠ b := fun z => sKindO hT h1 (z ▸ h4) rfl
  have b3 : bv ≠ b := fun z => nA (z ▸ h5) h1 rfl rfl (by decide)
  have b4 : ∀ j, j < 256 → ic j ≠ b := fun j hj z => sKindO hT h1 (z ▸ h6 j hj) rfl
  have c1 : G.2.2 1 ≠ G.2.2 0 := fun z => nA (z ▸ h3) h2 rfl rfl (by decide)
  have c2 : G.2.2 2 ≠ G.2.2 0 := fun z => sKindO hT h2 (z ▸ h4) rfl
  have c3 : bv ≠ G.2.2 0 := fun z => nA (z ▸ h5) h2 rfl rfl (by decide)
  have c4 : ∀ j, j < 256 → ic j ≠ G.2.2 0 := fun j hj z => sKindO hT h2 (z ▸ h6 j hj) rfl
  have d2 : G.2.2 2 ≠ G.2.2 1 := fun z => sKindO hT h3 (z ▸ h4) rfl
  have d3 : bv ≠ G.2.2 1 := fun z => nA (z ▸ h5) h3 rfl rfl (by decide)
  have d4 : ∀ j, j < 256 → ic j ≠ G.2.2 1 := fun j hj z => sKindO hT h3 (z ▸ h6 j hj) rfl
  have e3 : bv ≠ G.2.2 2 := fun z => sKindO hT (z ▸ h5) h4 rfl
  have e4 : ∀ j, j < 256 → ic j ≠ G.2.2 2 := fun j hj z => absurd (sKindC hT (z ▸ h6 j hj) h4 (r := (RJ21, TJ21, 1)) (r' := (RJ5, TJ5, 4)) rfl rfl) (by decide)
  have f4 : ∀ j, j < 256 → ic j ≠ bv := fun j hj z => sKindO hT h5 (z ▸ h6 j hj) rfl
  have hv : ∀ i j, i < 256 → j < 256 → ic i = ic j → (Int32.ofNat i - 128 : Int32) = Int32.ofNat j - 128 := by
    intro i j hi hj he
    obtain ⟨r, c1, a0, a1, -, -, a4, -⟩ := h6 i hi
    obtain ⟨r', c2, g0, g1, -, -, g4, -⟩ := h6 j hj
    cases a0.symm.trans (rfl : mCl[19]? = some (RJ21, TJ21, 1))
    cases g0.symm.trans (rfl : mCl[19]? = some (RJ21, TJ21, 1))
    rw [he] at a1
    cases a1.symm.trans g1
    have := (a4 0 (by decide) Nat.zero_lt_one).symm.trans (g4 0 (by decide) Nat.zero_lt_one)
    simpa [vp_V] using this
  have hfi : ∀ j, j < 256 → ∃ i, i < 256 ∧ (List.range 256).findIdx (fun i => decide (ic j = ic i)) = i ∧ ic j = ic i := by
    intro j hj
    have hlt : (List.range 256).findIdx (fun i => decide (ic j = ic i)) < (List.range 256).length := List.findIdx_lt_length_of_exists ⟨j, List.mem_range.mpr hj, decide_eq_true rfl⟩
    refine ⟨_, by simpa using hlt, rfl, ?_⟩
    have := List.findIdx_getElem (w := hlt)
    simpa using this
  have hic : ∀ j, j < 256 → sM G b L xs ic bv (ic j) = some (false, .inr (19, [.int (Int32.ofNat j - 128)])) := by
    intro j hj
    obtain ⟨i, hi, e1, e2⟩ := hfi j hj
    unfold sM
    rw [if_neg (b4 j hj), if_neg (c4 j hj), if_neg (d4 j hj), if_neg (e4 j hj), if_neg (f4 j hj), if_pos ⟨j, hj, rfl⟩, e1, hv i j hi hj e2.symm]
  have m1 : sM G b L xs ic bv b = some (false, .inl (13, L, .inl xs)) := by unfold sM; rw [if_pos rfl]
  have m2 : sM G b L xs ic bv (G.2.2 0) = some (false, .inl (5, 0, .inr (.inr (.inr (.inr fun _ => none))))) := by unfold sM; rw [if_neg b0, if_pos rfl]
  have m3 : sM G b L xs ic bv (G.2.2 1) = some (false, .inl (12, 256, .inr (.inr (.inr (.inr fun j => some (ic j)))))) := by unfold sM; rw [if_neg b1, if_neg c1, if_pos rfl]
  have m4 : sM G b L xs ic bv (G.2.2 2) = some (false, .inr (18, [.ref bv, .int 0])) := by unfold sM; rw [if_neg b2, if_neg c2, if_neg d2, if_pos rfl]
  have m5 : sM G b L xs ic bv bv = some (false, .inl (3, 5, .inl fun j => ([78, 69, 83, 87, 40] : List Int32).getD j 0)) := by unfold sM; rw [if_neg b3, if_neg c3, if_neg d3, if_neg e3, if_pos rfl]
  have key : ∀ q w e, sM G b L xs ic bv q = some (w, e) → w = false ∧ mAt G w q e s.heap := by
    intro q w e hM
    by_cases g1 : q = b
    · subst g1; rw [m1] at hM; cases hM; exact ⟨rfl, h1⟩
    · by_cases g2 : q = G.2.2 0
      · subst g2; rw [m2] at hM; cases hM; exact ⟨rfl, h2⟩
      · by_cases g3 : q = G.2.2 1
        · subst g3; rw [m3] at hM; cases hM; exact ⟨rfl, h3⟩
        · by_cases g4 : q = G.2.2 2
          · subst g4; rw [m4] at hM; cases hM; exact ⟨rfl, h4⟩
          · by_cases g5 : q = bv
            · subst g5; rw [m5] at hM; cases hM; exact ⟨rfl, h5⟩
            · by_cases g6 : ∃ j, j < 256 ∧ q = ic j
              · obtain ⟨j, hj, rfl⟩ := g6
                rw [hic j hj] at hM; cases hM; exact ⟨rfl, h6 j hj⟩
              · unfold sM at hM
                rw [if_neg g1, if_neg g2, if_neg g3, if_neg g4, if_neg g5, if_neg g6] at hM
                cases hM
  exact ⟨⟨m1, m2, m3, m4, m5, hic, fun q e hM => by cases (key q true e hM).1⟩, fun q w e hM => (key q w e hM).2⟩
/-- an array constant, as the world has it -/
theorem sArrAt {G : mG} {s : State} {A : Nat → Prop} {t : Nat} {ty : FieldType} {a N : Nat} {f : Nat → Value} {x : mX5} (h : va_T ty a N f A s s.heap) (hcls : ∀ cell : Cell, s.heap[a]? = some cell → cell.cls = G.2.1 t) (hx : ∀ j, j < N → f j = mEl x j) : mAt G false a (.inl (t, N, x)) s.heap := by
  obtain ⟨cell, h1, h2, h3, h4, h5, h6, -⟩ := h
  exact ⟨cell, h1, hcls cell h1, h2.1, h3, ⟨h4, h5⟩, fun j hj => by rw [h6 j hj, hx j hj], fun z => by cases z⟩
theorem sObjAt {G : mG} {s : State} {A : Nat → Prop} {ci a : Nat} {r : vw_C} {fs : List Value} (hr : mCl[ci]? = some r) (hK : u_Kn s r.1 r.2.1 r.2.2 (G.1.1 ci) (G.1.2 ci)) (hO : va_O r.1 a A s s.heap) (h0 : 0 < r.2.2 ∧ 0 < fs.length) (hF : ∀ k, k < r.2.2 → k < fs.length → va_OF (r.2.1 k).1 (r.2.1 k).2.1 (r.2.1 k).2.2.1 (vp_V fs k) a A s s.heap) : mAt G false a (.inr (ci, fs)) s.heap := by
  obtain ⟨cell, h1, h2, h3, -⟩ := hO
  have hcl : cell.cls = G.1.1 ci := Option.some.inj (h3.symm.trans hK.2.1)
  refine ⟨r, cell, hr, h1, hcl, ⟨h2, ?_⟩, fun k hk hk2 => ?_, fun z => by cases z⟩
  · obtain ⟨_, _, _, _, c2, -, -, g1, g2, -⟩ := hF 0 h0.1 h0.2
    cases h1.symm.trans g1
    exact g2
  · obtain ⟨cf, kf, i, f, c2, f1, -, g1, -, g3, -⟩ := hF k hk hk2
    cases h1.symm.trans g1
    obtain ⟨cf', kf', i', f', e1, e2⟩ := hK.1 k hk
    cases f1.symm.trans e1
    rw [← e2]
    exact g3
theorem sStart {p : Program} {s : State} {m : MethodId} {meth : Method} {c : Code} {b L : Nat} {xs : Nat → Int32} (hL : L ≤ 384) (C0 : lw_At p s m meth c b L xs) : ∃ (G : mG) (M : mM) (ic : Nat → Nat) (bv : Nat), sW0 G b L xs ic bv M ∧ mP G M s.heap ∧ mKT G s ∧ mKS G (fun q => s.heap.size ≤ q) s s.heap := by
  obtain ⟨-, -, -, -, -, hts, hX, hbl, -, hgv⟩ := C0
  have ta : ∀ w ∈ lw_all, w.before #[Value.ref b] s = true := fun w hw => hts w (lw_all_tbl hw)
  have hA : ∀ a : Nat, a < s.heap.size → ¬ (fun q => s.heap.size ≤ q) a := fun a h z => absurd h (Nat.not_lt.mpr z)
  have hs := flat_of_before _ hgv
  have hn : ∀ w : Cond, decide (w ∈ flatC (Jvm.Cond.and given_1 narrow_1)) = true → w.before #[Value.ref b] s = true := fun w h => hs w (of_decide_eq_true h)
  obtain ⟨scr, x1, x2, x3, x4, x5⟩ := hX
  -- classes
  have hK : ∀ cI : Nat, ∃ r : ClassId × (Nat → Nat), ∀ q, mCl[cI]? = some q → u_Kn s q.1 q.2.1 q.2.2 r.1 r.2 := by
    intro cI
    cases hq : mCl[cI]? with
    | none => exact ⟨(0, fun _ => 0), fun q h => by cases h⟩
    | some q =>
      obtain ⟨r, hr⟩ := sKn ta q (List.mem_of_getElem? hq)
      exact ⟨r, fun q' h => by cases h; exact hr⟩
  obtain ⟨rK, hK⟩ := Classical.axiomOfChoice hK
  -- the cache of Integers
  have clen := va_eqt (hn (Cond.eq (.length (.static "java/lang/Integer$IntegerCache" "cache" "[Ljava/lang/Integer;")) (.int 256)) (by decide +kernel))
  obtain ⟨ic, hic, hel⟩ := vb_Cof (A := fun q => s.heap.size ≤ q) (st := .static "java/lang/Integer$IntegerCache" "cache" "[Ljava/lang/Integer;") rfl clen (hn _ (by decide +kernel)) hA
  obtain ⟨ca, cev, cT⟩ := va_Tof (f := fun j => .ref (ic j)) (A := fun q => s.heap.size ≤ q) (N := 256) (by decide) (hn (Cond.arrayOf (.static "java/lang/Integer$IntegerCache" "cache" "[Ljava/lang/Integer;") (.object "java/lang/Integer")) (by decide +kernel)) clen (fun j hj => hel j hj) hA
  obtain ⟨ccell, cc1, cc2, -⟩ := id cT
  obtain ⟨cc3, ck, cc4, ccm, cc5⟩ := cc2
  obtain ⟨x6, xk, x7, xcm, x8⟩ := x2
  obtain ⟨tK, hTy⟩ := Classical.axiomOfChoice (sTy hts (sArrK cc4 cc5) (sArrK x7 x8))
  -- the empty array
  obtain ⟨da, dev, dT⟩ := va_Tof (f := fun _ => .null) (A := fun q => s.heap.size ≤ q) (N := 0) (by decide) (hn (Cond.arrayOf (.static "java/util/ArrayList" "DEFAULTCAPACITY_EMPTY_ELEMENTDATA" "[Ljava/lang/Object;") (.object "java/lang/Object")) (by decide +kernel)) (va_eqt (hn (Cond.eq (.length (.static "java/util/ArrayList" "DEFAULTCAPACITY_EMPTY_ELEMENTDATA" "[Ljava/lang/Object;")) (.int 0)) (by decide +kernel))) (fun j hj => absurd hj (Nat.not_lt_zero _)) hA
  obtain ⟨da', dc, dcell, dk, de1, de2, de3, de4, de5, de6, -⟩ := Cond.exactly_spec (hn (Cond.exactly (.static "java/util/ArrayList" "DEFAULTCAPACITY_EMPTY_ELEMENTDATA" "[Ljava/lang/Object;") "[Ljava/lang/Object;") (by decide +kernel))
  cases dev.symm.trans de1
  -- the String
  obtain ⟨sa, sc, scell, sk, se1, se2, se3, se4, se5, se6, -⟩ := Cond.exactly_spec (hn (Cond.exactly (.string "Hidecount$Reader" 38) "java/lang/String") (by decide +kernel))
  have slen := va_eqt (hn (Cond.eq (.length (.field (.string "Hidecount$Reader" 38) "java/lang/String" "value" "[B")) (.int 5)) (by decide +kernel))
  obtain ⟨bv, bev, bT⟩ := va_Tof (f := fun j => .int (([78, 69, 83, 87, 40] : List Int32).getD j 0)) (A := fun q => s.heap.size ≤ q) (N := 5) (by decide) (hn (Cond.arrayOf (.field (.string "Hidecount$Reader" 38) "java/lang/String" "value" "[B") .byte) (by decide +kernel)) slen (fun j hj => by
    rcases j with _ | _ | _ | _ | _ | j
    · exact va_eqt (hn (Cond.eq (.elem (.field (.string "Hidecount$Reader" 38) "java/lang/String" "value" "[B") (.int 0)) (.int 78)) (by decide +kernel))
    · exact va_eqt (hn (Cond.eq (.elem (.field (.string "Hidecount$Reader" 38) "java/lang/String" "value" "[B") (.int 1)) (.int 69)) (by decide +kernel))
    · exact va_eqt (hn (Cond.eq (.elem (.field (.string "Hidecount$Reader" 38) "java/lang/String" "value" "[B") (.int 2)) (.int 83)) (by decide +kernel))
    · exact va_eqt (hn (Cond.eq (.elem (.field (.string "Hidecount$Reader" 38) "java/lang/String" "value" "[B") (.int 3)) (.int 87)) (by decide +kernel))
    · exact va_eqt (hn (Cond.eq (.elem (.field (.string "Hidecount$Reader" 38) "java/lang/String" "value" "[B") (.int 4)) (.int 40)) (by decide +kernel))
    · omega) hA
  obtain ⟨ba', bc, bcell, bk, be1, be2, be3, be4, be5, be6, -⟩ := Cond.exactly_spec (hn (Cond.exactly (.field (.string "Hidecount$Reader" 38) "java/lang/String" "value" "[B") "[B") (by decide +kernel))
  cases bev.symm.trans be1
  obtain ⟨mi, hmi⟩ := va_Mi.of (hn (Cond.isRef (.mirror "[Ljava/lang/Object;")) (by decide +kernel))
  generalize hG : (((fun c => (rK c).1, fun c => (rK c).2), tK, fun n => if n = 0 then da else if n = 1 then ca else if n = 2 then sa else mi) : mG) = G
  have g0 : G.2.2 0 = da := by rw [← hG]; rfl
  have g1 : G.2.2 1 = ca := by rw [← hG]; rfl
  have g2 : G.2.2 2 = sa := by rw [← hG]; rfl
  have g3 : G.2.2 3 = mi := by rw [← hG]; rfl
  have gK : ∀ (c : Nat) (q : vw_C), mCl[c]? = some q → u_Kn s q.1 q.2.1 q.2.2 (G.1.1 c) (G.1.2 c) := fun c q h => by rw [← hG]; exact hK c q h
  have gT : ∀ (k : Nat) (ty : FieldType), mTy[k]? = some ty → mRA s (G.2.1 k) k ty := fun k ty h => by rw [← hG]; exact (hTy k).1 ty h
  have g12 : G.2.1 12 = ccell.cls := by rw [← hG]; exact (hTy 12).2.1 rfl
  have g13 : G.2.1 13 = scr.cls := by rw [← hG]; exact (hTy 13).2.2 rfl
  have hT : mKT G s := ⟨gK, gT, fun w hw hb => va_Nw.of (mBk_tab hb) (hts w hw), sFl hts, fun t ht => hts _ (of_decide_eq_true (List.all_eq_true.mp sAo_in t ht)), fun q hq => va_Nc.of (hn _ (List.all_eq_true.mp sNc_in q hq)), by rw [g2]; exact vk_R.of (hts _ q1153) se1, by rw [g3]; exact hmi⟩
  have hS : mKS G (fun q => s.heap.size ≤ q) s s.heap := ⟨by rw [g0]; exact va_Zof (hts _ q119) (ta _ q51) dev hA, va_Zof (hts _ q148) (ta _ q54) (va_eqt (hn (Cond.eq (.static "java/lang/String" "COMPACT_STRINGS" "Z") (.int 1)) (by decide +kernel))) hA, va_Zof (hts _ q1267) (ta _ q84) (va_eqt (hn (Cond.eq (.static "java/lang/Integer$IntegerCache" "high" "I") (.int 127)) (by decide +kernel))) hA, by rw [g1]; exact va_Zof (hts _ q1269) (ta _ q84) cev hA,
    vx_Zqof (hts _ q449) (ta _ q59) (hn _ (by decide +kernel)) hA, vx_Zqof (hts _ q451) (ta _ q59) (hn _ (by decide +kernel)) hA, vx_Zqof (hts _ q814) (ta _ q72) (hn _ (by decide +kernel)) hA⟩
  have a1 : mAt G false b (.inl (13, L, .inl xs)) s.heap := by
    refine ⟨scr, x1, g13.symm, x6, x3, ⟨Nat.le_of_eq x4.symm, congrArg Nat.toInt32 x4⟩, fun j hj => x5 j hj, fun z => by cases z⟩
  have a2 : mAt G false (G.2.2 0) (.inl (5, 0, .inr (.inr (.inr (.inr fun _ => none))))) s.heap := by
    rw [g0]
    refine sArrAt dT (fun cell h => ?_) (fun j hj => absurd hj (Nat.not_lt_zero _))
    cases de3.symm.trans h
    exact de6.trans (Option.some.inj (de2.symm.trans (va_nmO ((gT 5 _ rfl).2 (by decide)) rfl)))
  have a3 : mAt G false (G.2.2 1) (.inl (12, 256, .inr (.inr (.inr (.inr fun j => some (ic j)))))) s.heap := by
    rw [g1]
    refine sArrAt cT (fun cell h => ?_) (fun j hj => rfl)
    cases cc1.symm.trans h
    exact g12.symm
  have a4 : mAt G false (G.2.2 2) (.inr (18, [.ref bv, .int 0])) s.heap := by
    rw [g2]
    refine sObjAt (A := fun q => s.heap.size ≤ q) (r := (RJ5, TJ5, 4)) rfl (gK 18 _ rfl) ⟨scell, se3, se5, by rw [se6]; exact se2, hA _ (Array.getElem?_eq_some_iff.mp se3).1⟩ ⟨by decide, by simp⟩ (fun k hk hk2 => ?_)
    rcases k with _ | _ | k
    · exact vk_OFof se1 bev hA
    · exact vk_OFof se1 (va_eqt (hn (Cond.eq (.field (.string "Hidecount$Reader" 38) "java/lang/String" "coder" "B") (.int 0)) (by decide +kernel))) hA
    · exact absurd (show k + 1 + 1 < 2 from hk2) (by omega)
  have a5 : mAt G false bv (.inl (3, 5, .inl fun j => ([78, 69, 83, 87, 40] : List Int32).getD j 0)) s.heap := by
    refine sArrAt bT (fun cell h => ?_) (fun j hj => rfl)
    cases be3.symm.trans h
    exact be6.trans (Option.some.inj (be2.symm.trans ((gT 3 .byte rfl).2 (by decide))))
  have a6 : ∀ j, j < 256 → mAt G false (ic j) (.inr (19, [.int (Int32.ofNat j - 128)])) s.heap := by
    intro j hj
    refine sObjAt (A := fun q => s.heap.size ≤ q) (r := (RJ21, TJ21, 1)) rfl (gK 19 _ rfl) (hic.1 j hj) ⟨by decide, by simp⟩ (fun k hk hk2 => ?_)
    rcases k with _ | k
    · exact hic.2 j hj
    · exact absurd hk (by show ¬ k + 1 < 1; omega)
  obtain ⟨w1, w2⟩ := sW hT a1 a2 a3 a4 a5 a6
  exact ⟨G, _, ic, bv, w1, w2, hT, hS⟩
theorem sRoom {s : State} {pl : Platform} {r r' : Room} (hf : r.frames ≤ r'.frames) (hl : r.locals ≤ r'.locals) (hc : r.cells ≤ r'.cells) (hs : r.slots ≤ r'.slots) (h : s.hasRoom pl r' = true) : s.hasRoom pl r = true := by
  simp only [State.hasRoom, Bool.and_eq_true, decide_eq_true_eq] at h ⊢
  obtain ⟨⟨⟨⟨y, a, b, c, d, e⟩, f⟩, g⟩, i⟩ := h
  exact ⟨⟨⟨⟨by omega, by omega, by omega, by omega, by omega, e⟩, by omega⟩, by omega⟩, i⟩
theorem sStandR {p : Program} {l : Launch} {e : Env} {R R' : Room} {s : State} {m : MethodId} {args : Array Value} {below : List Frame} {meth : Method} {c : Code} {T : State} {locs : List Loc} {cells slots : Nat} (hf : R'.frames ≤ R.frames) (hl : R'.locals ≤ R.locals) (hc : R'.cells ≤ R.cells) (hs : R'.slots ≤ R.slots) (X : Stand p l e R s m args below meth c T locs cells slots) : Stand p l e R' s m args below meth c T locs cells slots :=
  { X with room := sRoom hf hl hc hs X.room }
/-- the law, if its predicate holds of every start -/
theorem sWhole (hpure : ∀ (G : mG) (M : mM) (ic : Nat → Nat) (bv b L : Nat) (xs : Nat → Int32), L ≤ 384 → sW0 G b L xs ic bv M → wp_L_law G 1200384 (fun v _ => v = 1) M b) {p : Program} {e : Env} {s : State} {m : MethodId} {below : List Frame} {meth : Method} {c : Code} (l : Launch) (hflags : l.flags = flags0) {b L : Nat} {xs : Nat → Int32} (hL : L ≤ 384) (C0 : lw_At p s m meth c b L xs) : W p l e room_1 s m #[Value.ref b] below meth c s.heap [] 0 0 (lw_Z below #[Value.ref b] s) (entryFrame m ([Value.ref b] : List Value).toArray 9) := by
  have hst0 : l.stackTraces = false := by
    unfold Launch.stackTraces
    rw [hflags]
    decide +kernel
  obtain ⟨G, M, ic, bv, hw0, hP, hT, hS⟩ := sStart hL C0
  have hb := wB_L_law hst0 (hpure G M ic bv b L xs hL hw0)
  obtain ⟨hx, hcode, hret, hml, hown, hts, hX, hbl, hlocks, hgv⟩ := C0
  have hA : ∀ q, mA M s.heap.size q → s.heap.size ≤ q := by
    rintro q (⟨e', h⟩ | h)
    · exact absurd h (hw0.2.2.2.2.2.2 q e')
    · exact h
  have hC : mCx p l s m #[Value.ref b] meth c code 9 x.cls G (mA M s.heap.size) := ⟨hx, hcode, hml, hown, fun w hw => hts w (lw_all_tbl hw), hlocks, hT, hS.narrow hA, fun q h => Or.inr h, hst0⟩
  have hls := lv_entry (n := 9) [Value.ref b] (Nat.le_of_ble_eq_true rfl)
  have K := hb p e s m #[Value.ref b] below meth c _ hC hret hls ⟨hP, fun q e' h => Or.inl ⟨e', h⟩, va_S.rf⟩
  rw [lg_entry_eq]
  intro T hT2 X
  obtain ⟨t, a1, o, b1, b2, b3⟩ := K T hT2 (sStandR (Nat.le_of_ble_eq_true rfl) (Nat.le_of_ble_eq_true rfl) (Nat.le_of_ble_eq_true rfl) (Nat.le_of_ble_eq_true rfl) X)
  refine ⟨t, a1, o, b1, b2, ?_⟩
  rcases b3 with ⟨⟨⟨v, M1, hv, ⟨r, hr, hr1⟩, -⟩, -⟩, Ls, hfe, hLs⟩ | ⟨q, ho, E, ce, Ls, ⟨⟨M1, hX1, -⟩, -⟩, -⟩
  · subst hv
    subst hr
    subst hr1
    obtain ⟨f1, f2, f3⟩ := hfe
    exact ⟨rfl, ⟨_, rfl⟩, f2, State.sameButNew.drop_fresh (L := []) (J := Ls) (f3.mono (Nat.le_refl _) (Nat.le_of_ble_eq_true rfl)) (fun z hz => hA _ (hLs z hz))⟩
  · exact hX1.elim
