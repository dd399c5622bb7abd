/-! A CALL OF A LAMBDA's OBJECT: into the made method, through its forwarder, the method behind it, and back -/
theorem lsP_at {w : Jvm.Cond} {c : ClassId} {one : Option Nat} {U : State} (h : lsP w c one U) : LSite (snmOf w) (spcOf w) (sixOf w) (shpOf w) c one U := by
  cases w <;> first | exact h | exact h.elim
/-- the object of a lambda of site i -/
def lmCell (G : GG) (h : HS) (a i : Nat) (H : Heap) : Prop := ∃ cell : Cell, H[a]? = some cell ∧ cell.cls = gLam G i ∧ cell.vm = .none ∧ ∀ (k f : Nat), (lF i)[k]? = some f → cell.slots[k]? = some (hval h f a)
theorem lmCell_200 {G : GG} {h : HS} {a i : Nat} {H : Heap} (r : RH G h H) (ht : hT h a = 200 + i) (hi : i < 100) : lmCell G h a i H := r.2.2.2.1 a i ht hi
theorem lmCell_300 {X : Ev} {G : GG} {own : String} {cc : ByteArray} {d : Nat} {h : HS} {a i : Nat} {H : Heap} {locs : List Loc} (C : HC X G own cc d) (hP : RP X G h H) (hS : va_S (ev_A X) (ev_s X).heap H locs) (ht : hT h a = 300 + i) (hi : i ∈ siteC) : lmCell G h a i H := by
  have h0 : 0 < i ∧ lF i = [] := by
    simp only [siteC, List.mem_cons, List.not_mem_nil, or_false] at hi
    rcases hi with e | e | e | e <;> subst e <;> exact ⟨by decide, rfl⟩
  have e := hP.1.2.2.2.2.2.1 a i ht h0.1
  obtain ⟨⟨cell, c1, c2, c3⟩, c4⟩ := C.2.2.1.2.2.2.2.2.2 i hi
  refine ⟨cell, ?_, c2, c3, fun k f hf => by rw [h0.2] at hf; cases hf⟩
  rw [e, hS.2.1 _ (Array.getElem?_eq_some_iff.mp c1).1 c4]
  exact c1
/-- what the tables hold of the made class c, in U -/
def lmTab (σ : Lambda.Shape) (dn : String) (bytes : ByteArray) (maxL : Nat) (ret : Option FieldType) (fs : List Nat) (mi ci nt : Nat) (c : ClassId) (methk : Method) (ck : Code) (vm : Vm) : Prop :=
  ∃ (k tk : Class) (file : ClassFile) (toy : ClassId) (t : MethodId), (vm.classes[c]? = some k ∧ k.name = dn ++ "$$Lambda" ∧ k.cf = some file ∧ file.constantPool = (lmD σ dn).constantPool) ∧
      (vm.method? ⟨c, 1⟩ = some methk ∧ methk.code = some ck ∧ ck.code = bytes ∧ ck.maxLocals = maxL ∧ methk.locks = false ∧ methk.accessFlags = 1 ∧ methk.sig.returnType = ret) ∧
      (vm.findClass σ.implClass = some toy ∧ vm.classes[toy]? = some tk ∧ ((methodIn toy σ.implName σ.implDesc.toString tk.isInterface none).ask { classPath := fun _ => none } vm).1 = .ok t) ∧ (vm.methodReady c mi t ∧ vm.classReady c ci toy) ∧
      (∀ j i, fs[j]? = some i → ∃ f : Field, vm.fieldReady c i c f ∧ f.isStatic = false ∧ f.slot = j)
/-- what the made method owes between its start and its return -/
abbrev LMid (X : Ev) (G : GG) (h : HS) (H : Heap) (d i a : Nat) (As : List Value) (σ : Lambda.Shape) (dn : String) (bytes : ByteArray) (maxL : Nat) (ret : Option FieldType) (fs : List Nat) (mi ci nt : Nat) (ls0 : Array Slot) (Q1 : QT) : Prop :=
  ∀ (U s' : State) (below' : List Frame) (methk : Method) (ck : Code) (cell : Cell), Stand (ev_p X) (ev_l X) (ev_e X) { frames := d - 1, cells := gCC G - hZ h, slots := gSS G - hL h, locals := 64 * d + 10281 } s' ⟨cell.cls, 1⟩ (Value.ref a :: As).toArray below' methk ck U [] 0 0 → lmTab σ dn bytes maxL ret fs mi ci nt cell.cls methk ck U.vm →
      s'.vm = U.vm → (ev_s X).WarmedH U.vm → U.heap = H → H[a]? = some cell → cell.cls = gLam G i → cell.vm = .none → (∀ (k f : Nat), (lF i)[k]? = some f → cell.slots[k]? = some (hval h f a)) →
      ∃ (v : Option Value) (B : Pt) (st₀ t : State) (pcE : Nat), Stand (ev_p X) (ev_l X) (ev_e X) { frames := d - 1, cells := gCC G - hZ h, slots := gSS G - hL h, locals := 64 * d + 10281 } s' ⟨cell.cls, 1⟩ (Value.ref a :: As).toArray below' methk ck B.U B.locs (gCC G - hZ h) (gSS G - hL h) ∧ (∀ q ∈ B.locs, hD h q.base) ∧ st₀.heap = H ∧ B.U.heap = t.heap ∧ B.U.vm = t.vm ∧ hQc G h Q1 #[] st₀ (.returned v) t ∧
        (methk.sig.returnType = none → v = none) ∧ (∀ (fs9 : List Frame), (∀ (f : JFrame) (acts : List Action), f.method = ⟨cell.cls, 1⟩ → f.locked = none → f.entered = [] → (doReturn (ev_e X) (B.U.setTop f) acts v).1 = B.U.setFrames fs9) → Steps (ev_p X).tables (ev_e X) below' (B.U.setTop (fwF ⟨cell.cls, 1⟩ pcE ls0 v.toList)) (B.U.setFrames fs9)) ∧
        ∀ target, Steps (ev_p X).tables (ev_e X) below' (B.U.setTop (fwF ⟨cell.cls, 1⟩ pcE ls0 v.toList)) target → Steps (ev_p X).tables (ev_e X) below' (U.setTop (fwF ⟨cell.cls, 1⟩ 0 ls0 [])) target
section LMC
variable {X : Ev} {G : GG} {own : String} {cc : ByteArray} {d d1 pc : Nat} {lv : List (Nat × Value)} {stk rest As Bs : List Value} {h : HS} {Q0 : State → Prop} {Q1 : QT} {E1 : ET}
theorem obj0 (C : GC X own cc) {vm : Vm} (hA : (ev_s X).vm.Alike vm) : ∀ o k, vm.findClass "java/lang/Object" = some o → vm.classes[o]? = some k → k.instanceTypes = #[] := by
  intro o k ho hk
  have hw := C.2.2.2.2.1 _ q2788
  obtain ⟨c, k0, h1, h2, -, -, -, h3⟩ := Cond.instantiable_spec hw
  obtain ⟨k1, hk1, he⟩ := hA.2.2 _ _ h2
  rw [hA.findClass, show (ev_s X).vm.findClass "java/lang/Object" = some c from h1] at ho
  cases ho
  cases hk.symm.trans hk1
  have e : k.instanceTypes = k0.instanceTypes := by rw [he]
  rw [e]
  exact Array.eq_empty_of_size_eq_zero h3
theorem lam_run5 {i a index count n maxL mi ci nt : Nat} {w : Jvm.Cond} {dn : String} {bytes : ByteArray} {ret : Option FieldType} {tys : List FieldType} {fs : List Nat} {ls0 : Array Slot} {H : Heap} {locs : List Loc} {ls : Array Slot} (C : HC X G own cc d) (hd : d1 + 2 ≤ d) (hmem : (i, w) ∈ siteL)
    (K : LK (shpOf w) dn bytes maxL ret tys fs mi ci nt) (hdn : (snmOf w).cls = dn) (hmx : maxL ≤ 4) {x : MethodName} (hx : x.cls = (shpOf w).iface ∧ x.name = (shpOf w).name ∧ x.desc = (shpOf w).sam.toString) (hxp : x.cls ≠ "java/lang/invoke/MethodHandle" ∧ x.cls ≠ "java/lang/invoke/VarHandle")
    (hlink : Jvm.Cond.methodLink own index x ∈ lw_all) (hfa : faP x (ev_s X)) (hP : RP X G h H) (hS : va_S (ev_A X) (ev_s X).heap H locs) (hsz : ls.size = ev_n X) (hcellP : lmCell G h a i H)
    (hn : As.length = n) (hpn : (parseMethodDescriptor x.desc).map (fun d => d.parameters.length) = some n) (hstk : stk = As.reverse ++ .ref a :: rest) (hc : (rest.map fun v => v.category).sum ≤ 8) (hdg : decode cc pc = .ok (.invokeinterface index count, 5))
    (hent : ∀ mk, entryFrame mk (Value.ref a :: As).toArray maxL = fwF mk 0 ls0 [])
    (hmid : LMid X G h H d i a As (shpOf w) dn bytes maxL ret fs mi ci nt ls0 Q1) :
    vx_Run5 (ev_p X) (ev_l X) (ev_e X) (ev_R X) (ev_s X) (ev_m X) (ev_a X) (ev_b X) (ev_h X) (ev_c X) H locs (hZ h - (ev_s X).heap.size) (hL h - slS (ev_s X).heap) (gCC G - hZ h) (gSS G - hL h) (F0 (ev_m X) pc ls stk) rest (hQc G h Q1 #[]) (hXc G h E1) (hD h) := by
  intro T hT Z
  obtain ⟨mD, kD, cfD, i0, p0, lk, hmD, hkD, -, -, -, hmade, hcan, -⟩ := lsP_at (C.2.1.2.2.2.2.2.1 _ hmem)
  obtain ⟨kD', hkD', hnameD⟩ := className_of_methodNamed hmD
  cases hkD.symm.trans hkD'
  rw [hdn] at hnameD
  obtain ⟨cell, hcell, hcls, hvmc, hslots⟩ := hcellP
  rw [← hcls] at hmade hcan
  obtain ⟨r0, r, hnR, hrR, hstR, hsigR⟩ := Cond.declares_spec hfa.1
  obtain ⟨cL, kL, r1, hcL, hkL, hiL, hfoundL, hn1⟩ := Cond.interfaceMethod_spec hfa.2
  cases hnR.symm.trans hn1
  have hr0cls : r0.cls = cL := Option.some.inj ((findClass_of_methodNamed hnR).symm.trans hcL)
  obtain ⟨hnameR, hdescR⟩ := name_of_methodNamed hnR hrR
  obtain ⟨-, -, -, -, -, -, -, iface', -, -, -, -, found, -, -, -, -, -, hi', -, -, -, -, -, -, hfound', -, -, -, -, -, -, -, -, -, -, hsel⟩ := Lambda.isMade_spec hmade
  rw [← hx.1] at hi'
  cases hcL.symm.trans hi'
  have hfr : found = r0 := by
    have h1 : (ev_s X).methodFound? x.cls x.name x.desc = some r0 := hfoundL
    simp only [State.methodFound?, hcL, hkL, hiL, Option.bind_eq_bind, Option.bind_some] at h1
    rw [← hx.2.1, ← hx.2.2] at hfound'
    rw [hfound'] at h1
    exact Option.some.inj h1
  subst hfr
  obtain ⟨i2, hi2, hasg, hway⟩ := State.lambdaCallable_spec hcan
  rw [← hx.1] at hi2
  cases hcL.symm.trans hi2
  obtain ⟨k, tk, file, methk, ck, toy, t, ⟨hk, hkn, hkf, hkp⟩, ⟨hmk, hck, hby, hml, hlk, hfl, hre⟩, -, -, -⟩ := lm_facts K hkD hnameD (obj0 C.1 (Vm.Alike.refl _)) hmade
  have hlenR : As.length = r.sig.parameters.length := by
    have h1 := hpn
    rw [hsigR] at h1
    rw [hn]
    exact (Option.some.inj h1).symm
  have hcell' : T.heap[a]? = some cell := by rw [hT]; exact hcell
  have hdg' : decode (ev_c X).code (F0 (ev_m X) pc ls stk).pc = .ok (.invokeinterface index count, 5) := by rw [C.1.2.1]; exact hdg
  obtain ⟨vm₁, X₁, hstep₁⟩ := Z.invokeinterface C.1.1 C.1.2.2.2.1 (C.1.2.2.2.2.1 _ hlink) hnR hrR hstR (by rw [hr0cls]; exact hkL) hiL hxp (a := a) (cell := cell) (kcell := k) hcell' (fun z hz => by rw [hvmc] at hz; cases hz) hk (by rw [hr0cls]; exact hasg)
    (m' := ⟨cell.cls, 1⟩) (meth' := methk) (by rw [Launch.admits_selectMethod Z.admits]; exact hsel) hmk (by rw [hnameR, hdescR, hx.2.1, hx.2.2]; exact hway) (by rw [hfl]; decide) (by simp [Method.isAbstract, hfl, hasFlag, Acc.abstract]) (g := F0 (ev_m X) pc ls stk) rfl (argsL := As) (rest := rest) hlenR hstk hdg'
  have hW₁ : (ev_s X).WarmedH vm₁ := X₁.warmed
  obtain ⟨kD₁, hkD₁, heD₁⟩ := hW₁.alike.2.2 _ _ hkD
  have hnameD₁ : kD₁.name = dn := by rw [heD₁]; exact hnameD
  obtain ⟨k1, tk1, file1, methk1, ck1, toy1, t1, ⟨hk1, hkn1, hkf1, hkp1⟩, ⟨hmk1, hck1, hby1, hml1, hlk1, hfl1, hre1⟩, hT1, hT2, hT3, -⟩ := lm_facts K hkD₁ hnameD₁ (obj0 C.1 hW₁.alike) (Lambda.isMade_warmer hW₁ hmade)
  have hpk : (T.setVm vm₁).plainMethod ⟨cell.cls, 1⟩ := State.plainMethod.of_name (fun k' hk' => by cases hk1.symm.trans hk'; rw [hkn1]; exact K.2.2.2.2.2.2)
  have hRo : hLm G (gCC G, gSS G) := ⟨rfl, rfl⟩
  have hsz' : ({ F0 (ev_m X) pc ls stk with stack := rest } : JFrame).locals.size = (ev_c X).maxLocals := by rw [C.1.2.2.1]; exact hsz
  have hz1 := hP.1.1.2.2.1
  have hz2 := hP.1.1.2.2.2
  have hz3 := hP.2.2.1
  have hz4 := hP.2.2.2
  obtain ⟨Y₀, hin⟩ := X₁.into (g := { F0 (ev_m X) pc ls stk with stack := rest }) rfl hsz' hdg' (Value.ref a :: As).toArray (R' := { frames := d - 1, cells := gCC G - hZ h, slots := gSS G - hL h, locals := 64 * d + 10281 }) hmk1 hck1 hlk1 hpk
    (by rw [C.2.2.2.1]; show d - 1 + 1 ≤ d; omega) (by rw [C.2.2.2.1, hml1]; have hz := lv_room (m := ev_m X) (pc := pc) (ls := ls) (rest := rest) hc; show 2 * (F0 (ev_m X) pc ls rest).monitorRoom + (rest.map fun v => v.category).sum + (maxL + 11) + (64 * d + 10281) ≤ 64 * d + 10304; omega) (by rw [C.2.2.2.1]; dsimp only [hrm]; omega) (by rw [C.2.2.2.1]; dsimp only [hrm]; omega)
  obtain ⟨v, B, st₀, t, pcE, Y₁, hL, hst0, e1, e2, hq, hv, hret, hgo⟩ := hmid _ _ _ methk1 ck1 cell Y₀ ⟨k1, tk1, file1, toy1, t1, ⟨hk1, hkn1, hkf1, hkp1⟩, ⟨hmk1, hck1, hby1, hml1, hlk1, hfl1, hre1⟩, hT1, hT2, hT3⟩ rfl hW₁ hT hcell hcls hvmc hslots
  obtain ⟨fs9, hleave, -, hended, hWe, hsame⟩ := Y₁.leave (v := v) hv hlk1
  obtain ⟨T', X', hW', -, ht⟩ := X₁.outOf (g := { F0 (ev_m X) pc ls stk with stack := rest }) rfl hdg' hended hWe hsame
  have hh : T'.heap = B.U.heap := (congrArg State.heap ht).symm
  have hv9 : T'.vm = B.U.vm := (congrArg State.vm ht).symm
  refine Or.inl ⟨v, st₀, t, T', B.locs, hst0, X', hL, hh.trans e1, hv9.trans e2, hq, fun target htgt => hstep₁ _ fun acts => ?_⟩
  rw [hin acts]
  refine Steps.trans ?_ htgt
  show Steps (ev_p X).tables (ev_e X) (ev_b X) _ (T'.setTop { ({ F0 (ev_m X) pc ls stk with stack := rest } : JFrame) with pc := ({ F0 (ev_m X) pc ls stk with stack := rest } : JFrame).pc + 5, stack := v.toList ++ ({ F0 (ev_m X) pc ls stk with stack := rest } : JFrame).stack })
  rw [← ht]
  refine Steps.weaken (mid := [.java { F0 (ev_m X) pc ls stk with stack := rest }]) ?_
  have e9 : entryFrame ⟨cell.cls, 1⟩ (Value.ref a :: As).toArray ck1.maxLocals = fwF ⟨cell.cls, 1⟩ 0 ls0 [] := by rw [hml1]; exact hent _
  have g9 := hgo _ (hret fs9 hleave)
  rw [← e9] at g9
  exact g9
/-- the loads ahead of the call -/
abbrev LFw (X : Ev) (h : HS) (d i a : Nat) (bytes : ByteArray) (fs : List Nat) (ls0 : Array Slot) (pcI : Nat) (stI : List Value) : Prop :=
  ∀ (U s' : State) (R' : Room) (a' : Array Value) (below' : List Frame) (methk : Method) (ck : Code) (cell : Cell), Stand (ev_p X) (ev_l X) (ev_e X) R' s' ⟨cell.cls, 1⟩ a' below' methk ck U [] 0 0 → ck.code = bytes →
    (∀ j i, fs[j]? = some i → ∃ f : Field, U.vm.fieldReady cell.cls i cell.cls f ∧ f.isStatic = false ∧ f.slot = j) → U.heap[a]? = some cell → cell.vm = .none → (∀ (k f : Nat), (lF i)[k]? = some f → cell.slots[k]? = some (hval h f a)) →
    ∀ target, Steps (ev_p X).tables (ev_e X) below' (U.setTop (fwF ⟨cell.cls, 1⟩ pcI ls0 stI)) target → Steps (ev_p X).tables (ev_e X) below' (U.setTop (fwF ⟨cell.cls, 1⟩ 0 ls0 [])) target
/-- how the forwarder returns -/
abbrev LRet (bytes : ByteArray) (pcE : Nat) (ret : Option FieldType) (Q1 : QT) : Prop :=
  (ret = none ∧ decode bytes pcE = .ok (.return_, 1) ∧ ∀ v h, Q1 v h → v = none) ∨ (ret = some .boolean ∧ decode bytes pcE = .ok (.ireturn, 1) ∧ ∀ v h, Q1 v h → ∃ x, v = some (.int x) ∧ bz x)
theorem lam_ret {s' : State} {R' : Room} {mk : MethodId} {a' : Array Value} {below' : List Frame} {methk : Method} {ck : Code} {bytes : ByteArray} {ret : Option FieldType} {U : State} {locs : List Loc} {cells slots pcE : Nat} {ls0 : Array Slot} {v : Option Value} {h2 : HS} (C : HC X G own cc d) (Y : Stand (ev_p X) (ev_l X) (ev_e X) R' s' mk a' below' methk ck U locs cells slots) (hby : ck.code = bytes) (hlk : methk.locks = false) (hre : methk.sig.returnType = ret) (hRet : LRet bytes pcE ret Q1) (hq : Q1 v h2) :
    (methk.sig.returnType = none → v = none) ∧ ∀ (fs9 : List Frame), (∀ (f : JFrame) (acts : List Action), f.method = mk → f.locked = none → f.entered = [] → (doReturn (ev_e X) (U.setTop f) acts v).1 = U.setFrames fs9) → Steps (ev_p X).tables (ev_e X) below' (U.setTop (fwF mk pcE ls0 v.toList)) (U.setFrames fs9) := by
  rcases hRet with ⟨r1, r2, r3⟩ | ⟨r1, r2, r3⟩
  · have e := r3 v h2 hq
    subst e
    exact ⟨fun _ => rfl, fun fs9 hl => fw_vret Y C.1.1 hby hlk r2 (hre.trans r1) hl⟩
  · obtain ⟨x, e, hz⟩ := r3 v h2 hq
    subst e
    exact ⟨fun z => (by rw [hre, r1] at z; cases z), fun fs9 hl => fw_zret Y C.1.1 hby hlk r2 (hre.trans r1) (bz_nar hz) hl⟩
theorem lam_midS {i a maxL mi ci nt pcI ym : Nat} {σ : Lambda.Shape} {dn : String} {bytes yb : ByteArray} {ret yr : Option FieldType} {fs : List Nat} {ls0 : Array Slot} {H : Heap} {locs : List Loc} (C : HC X G own cc d) (hd : d1 + 2 ≤ d) (hP : RP X G h H) (hS : va_S (ev_A X) (ev_s X).heap H locs)
    {y : MethodName} (hy : y = ⟨σ.implClass, σ.implName, σ.implDesc.toString⟩) (hyp : y.cls ≠ "java/lang/invoke/MethodHandle" ∧ y.cls ≠ "java/lang/invoke/VarHandle") (hM : HMet (ev_l X) G y (ws_ y yb ym yr) d1 Bs h Q1 (fun _ _ => False)) (h2 : Jvm.Cond.static y ∈ lw_all) (h4 : Jvm.Cond.initialized y.cls ∈ lw_all) (h5 : Jvm.Cond.code y yb ym yr ∈ lw_all)
    (hpn : (parseMethodDescriptor y.desc).map (fun d => d.parameters.length) = some Bs.length) (hym : ym ≤ 45) (hls : ls0.size = maxL) (hcp : (lmD σ dn).constantPool[mi]? = some (.methodref ci nt) ∧ (lmD σ dn).constantPool.nameAndType? nt = some (σ.implName, σ.implDesc.toString))
    (hinv : decode bytes pcI = .ok (.invokestatic mi, 3)) (hfw : LFw X h d i a bytes fs ls0 pcI Bs.reverse) (hRet : LRet bytes (pcI + 3) ret Q1) : LMid X G h H d i a As σ dn bytes maxL ret fs mi ci nt ls0 Q1 := by
  intro U s' below' methk ck cell Y ⟨k, tk, file, toy, t, ⟨hk, hkn, hkf, hkp⟩, ⟨hmk, hck, hby, hml, hlk, hfl, hre⟩, ⟨ht1, ht2, ht3⟩, ⟨hr1, hr2⟩, hfs⟩ hvs hW hUH hcell hcls hvm hsl
  have hcodeT := C.1.2.2.2.2.1 _ h5
  cases hmT : (ev_s X).methodNamed? y with
  | none => simp [Cond.before, Cond.holds, Cond.value, hmT] at hcodeT
  | some mT =>
  obtain ⟨methT, cT, hmethT, hcT, hbytesT, hlocT, hretT, hlocksT, -, hsigT⟩ := Cond.code_spec hmT hcodeT
  have hstaticT : methT.isStatic = true := Cond.static_spec hmT hmethT (C.1.2.2.2.2.1 _ h2)
  obtain ⟨kT, hkT, hnameT⟩ := className_of_methodNamed hmT
  have hfT : (ev_s X).vm.findClass y.cls = some mT.cls := findClass_of_methodNamed hmT
  have hinitK : kT.init = .initialized := Cond.initialized_spec hfT hkT (C.1.2.2.2.2.1 _ h4)
  have hfT1 : U.vm.findClass y.cls = some mT.cls := by rw [hW.alike.findClass]; exact hfT
  have ht1' := ht1
  rw [show σ.implClass = y.cls by rw [hy]] at ht1'
  cases ht1'.symm.trans hfT1
  have ht : t = mT := by
    have h1 : ((ev_s X).setVm U.vm).methodFound? y.cls y.name y.desc = some mT := by rw [State.methodFound?_setVm hW.alike]; exact State.methodFound?_of_named hmT hyp
    simp only [State.methodFound?, State.vm_setVm, hfT1, ht2, Option.bind_eq_bind, Option.bind_some] at h1
    rw [show y.name = σ.implName by rw [hy], show y.desc = σ.implDesc.toString by rw [hy], ht3] at h1
    exact Option.some.inj h1
  subst ht
  have hmethT1 : U.vm.method? t = some methT := by rw [hW.alike.method?]; exact hmethT
  obtain ⟨kT1, hkT1, heT1⟩ := hW.alike.2.2 _ _ hkT
  cases ht2.symm.trans hkT1
  have hnm : tk.name ≠ "java/lang/invoke/MethodHandle" ∧ tk.name ≠ "java/lang/invoke/VarHandle" := by
    have : tk.name = y.cls := by rw [heT1]; exact hnameT
    rw [this]; exact hyp
  have hsp : ∀ z : Method, signaturePolymorphic tk z = false := fun z => by simp [signaturePolymorphic, hnm.1, hnm.2]
  obtain ⟨b, hmem⟩ := memberRef_ask' (e := ev_e X) (vm := U.vm) (d := cell.cls) (index := mi) hk hkf (Or.inl (by rw [hkp]; exact hcp.1)) (by rw [hkp]; exact hcp.2)
  have hlenT : Bs.length = methT.sig.parameters.length := by
    have h1 := hpn
    rw [hsigT] at h1
    exact (Option.some.inj h1).symm
  have hWs : (ev_s X).WarmedH s'.vm := by rw [hvs]; exact hW
  have hback := vx_back (R := { frames := d - 1, cells := gCC G - hZ h, slots := gSS G - hL h, locals := 64 * d + 10281 }) (p := ev_p X) (e := ev_e X) (below := below') (s := s') (sargs := (Value.ref a :: As).toArray) (len := 3) (W9 := 0) (bytes := yb) (maxL := ym) (ret := yr) hM hPc_blind rfl rfl
    (by show d1 + 1 ≤ d - 1; omega) (by show 0 + (ym + 11) + (64 * d1 + 10304) ≤ 64 * d + 10281; omega) (pay_in C.1.2.2.2.2.1 (lw_meth h5) |> fun z w hw a' V hV => z w hw a' V (State.WarmedH.trans hWs hV)) List.mem_cons_self
    (fun a' V hV => word_at (State.WarmedH.trans hWs hV) (Or.inl (by first | rfl | simp [Cond.onTables, Cond.keeps, Cond.steady])) (C.1.2.2.2.2.1 _ h4))
  obtain ⟨v, B, Y1, hpost, hgo⟩ := fw_static (As := Bs) (ls := ls0) Y C.1.1 hby (by rw [hml]; exact hls) hback (fun A q B z => by obtain ⟨g, mk, t, L, E, ce, -, -, ⟨⟨h', z, -⟩, -⟩, -⟩ := z; exact z) hinv ⟨ci, _, _, b, t.cls, tk, hmem, hr2, ht2, by simp [hsp]⟩ hr1 ht2 hmethT1 (hsp _) hstaticT (by rw [heT1]; exact hinitK) hlenT
    (by have := State.methodNamed?_setVm (s := ev_s X) hW.alike y; rw [hmT] at this; exact this) ⟨Nat.le_of_eq (Nat.zero_add _), Nat.le_of_eq (Nat.zero_add _), hpreU C hP hS U hUH hW⟩
  obtain ⟨g', mk', t2, L, e1, e2, hq, e3, hLL, e4, e5⟩ := hpost
  have hqv : ∃ h9, Q1 v h9 := by
    obtain ⟨⟨v', h', hv, hq9, -⟩, -⟩ := hq
    cases hv
    exact ⟨h', hq9⟩
  obtain ⟨h9, hq9⟩ := hqv
  obtain ⟨hr8, hr9⟩ := lam_ret (ls0 := ls0) C Y1 hby hlk hre hRet hq9
  have e3' : B.locs = L := e3
  have e4' : B.cells = gCC G - hZ h := by rw [e4]; exact Nat.zero_add _
  have e5' : B.slots = gSS G - hL h := by rw [e5]; exact Nat.zero_add _
  rw [e4', e5'] at Y1
  exact ⟨v, B, U.calling g' mk' Bs.toArray, t2, pcI + 3, Y1, by rw [e3']; exact hLL, hUH, e1, e2, hq, hr8, hr9, fun target htg => hfw U s' _ _ below' methk ck cell Y hby hfs (by rw [hUH]; exact hcell) hvm hsl _ (hgo _ htg)⟩
theorem lam_midV {b i a maxL mi ci nt pcI ym : Nat} {σ : Lambda.Shape} {dn : String} {bytes yb : ByteArray} {ret yr : Option FieldType} {fs : List Nat} {ls0 : Array Slot} {H : Heap} {locs : List Loc} (C : HC X G own cc d) (hd : d1 + 2 ≤ d) (hP : RP X G h H) (hS : va_S (ev_A X) (ev_s X).heap H locs)
    {y : MethodName} (hy : y = ⟨σ.implClass, σ.implName, σ.implDesc.toString⟩) (hyp : y.cls ≠ "java/lang/invoke/MethodHandle" ∧ y.cls ≠ "java/lang/invoke/VarHandle") (hM : HMet (ev_l X) G y (ws_ y yb ym yr) d1 (.ref b :: Bs) h Q1 (fun _ _ => False)) (h2 : Jvm.Cond.instanceMethod y ∈ lw_all) (h3 : Jvm.Cond.selects y.cls y y ∈ lw_all) (hib : hIs h b y.cls) (h4 : Jvm.Cond.initialized y.cls ∈ lw_all) (h5 : Jvm.Cond.code y yb ym yr ∈ lw_all)
    (hpn : (parseMethodDescriptor y.desc).map (fun d => d.parameters.length) = some Bs.length) (hym : ym ≤ 45) (hls : ls0.size = maxL) (hcp : (lmD σ dn).constantPool[mi]? = some (.methodref ci nt) ∧ (lmD σ dn).constantPool.nameAndType? nt = some (σ.implName, σ.implDesc.toString))
    (hinv : decode bytes pcI = .ok (.invokevirtual mi, 3)) (hfw : LFw X h d i a bytes fs ls0 pcI (Bs.reverse ++ [.ref b])) (hRet : LRet bytes (pcI + 3) ret Q1) : LMid X G h H d i a As σ dn bytes maxL ret fs mi ci nt ls0 Q1 := by
  intro U s' below' methk ck cell Y ⟨k, tk, file, toy, t, ⟨hk, hkn, hkf, hkp⟩, ⟨hmk, hck, hby, hml, hlk, hfl, hre⟩, ⟨ht1, ht2, ht3⟩, ⟨hr1, hr2⟩, hfs⟩ hvs hW hUH hcell hcls hvm hsl
  have hcodeT := C.1.2.2.2.2.1 _ h5
  cases hmT : (ev_s X).methodNamed? y with
  | none => simp [Cond.before, Cond.holds, Cond.value, hmT] at hcodeT
  | some mT =>
  obtain ⟨methT, cT, hmethT, hcT, hbytesT, hlocT, hretT, hlocksT, -, hsigT⟩ := Cond.code_spec hmT hcodeT
  obtain ⟨mT2, methT2, hmT2, hmethT2, hstT, habT⟩ := Cond.instanceMethod_spec (C.1.2.2.2.2.1 _ h2)
  cases hmT.symm.trans hmT2
  cases hmethT.symm.trans hmethT2
  obtain ⟨cellB, hcellB, hoB, hclB⟩ := hib.recv C hP hS
  obtain ⟨kT, hkT, hnameT⟩ := className_of_methodNamed hmT
  have hfT : (ev_s X).vm.findClass y.cls = some mT.cls := findClass_of_methodNamed hmT
  have hinitK : kT.init = .initialized := Cond.initialized_spec hfT hkT (C.1.2.2.2.2.1 _ h4)
  obtain ⟨c2, r2, m2, q1, q2, q3, q4, kP, hkP, hkPi⟩ := Cond.selects_spec (C.1.2.2.2.2.1 _ h3)
  cases hclB.symm.trans q1
  cases (State.methodFound?_of_named hmT hyp).symm.trans q2
  cases hmT.symm.trans q3
  have hfT1 : U.vm.findClass y.cls = some mT.cls := by rw [hW.alike.findClass]; exact hfT
  have ht1' := ht1
  rw [show σ.implClass = y.cls by rw [hy]] at ht1'
  cases ht1'.symm.trans hfT1
  have ht : t = mT := by
    have h1 : ((ev_s X).setVm U.vm).methodFound? y.cls y.name y.desc = some mT := by rw [State.methodFound?_setVm hW.alike]; exact State.methodFound?_of_named hmT hyp
    simp only [State.methodFound?, State.vm_setVm, hfT1, ht2, Option.bind_eq_bind, Option.bind_some] at h1
    rw [show y.name = σ.implName by rw [hy], show y.desc = σ.implDesc.toString by rw [hy], ht3] at h1
    exact Option.some.inj h1
  subst ht
  have hmethT1 : U.vm.method? t = some methT := by rw [hW.alike.method?]; exact hmethT
  obtain ⟨kT1, hkT1, heT1⟩ := hW.alike.2.2 _ _ hkT
  cases ht2.symm.trans hkT1
  have hnm : tk.name ≠ "java/lang/invoke/MethodHandle" ∧ tk.name ≠ "java/lang/invoke/VarHandle" := by
    have : tk.name = y.cls := by rw [heT1]; exact hnameT
    rw [this]; exact hyp
  have hsp : ∀ z : Method, signaturePolymorphic tk z = false := fun z => by simp [signaturePolymorphic, hnm.1, hnm.2]
  obtain ⟨b9, hmem⟩ := memberRef_ask' (e := ev_e X) (vm := U.vm) (d := cell.cls) (index := mi) hk hkf (Or.inl (by rw [hkp]; exact hcp.1)) (by rw [hkp]; exact hcp.2)
  have hlenT : Bs.length = methT.sig.parameters.length := by
    have h1 := hpn
    rw [hsigT] at h1
    exact (Option.some.inj h1).symm
  have hWs : (ev_s X).WarmedH s'.vm := by rw [hvs]; exact hW
  have hback := vx_back (R := { frames := d - 1, cells := gCC G - hZ h, slots := gSS G - hL h, locals := 64 * d + 10281 }) (p := ev_p X) (e := ev_e X) (below := below') (s := s') (sargs := (Value.ref a :: As).toArray) (len := 3) (W9 := 0) (bytes := yb) (maxL := ym) (ret := yr) hM hPc_blind rfl rfl
    (by show d1 + 1 ≤ d - 1; omega) (by show 0 + (ym + 11) + (64 * d1 + 10304) ≤ 64 * d + 10281; omega) (pay_in C.1.2.2.2.2.1 (lw_meth h5) |> fun z w hw a' V hV => z w hw a' V (State.WarmedH.trans hWs hV)) List.mem_cons_self
    (fun a' V hV => word_at (State.WarmedH.trans hWs hV) (Or.inl (by first | rfl | simp [Cond.onTables, Cond.keeps, Cond.steady])) (C.1.2.2.2.2.1 _ h4))
  have hitf1 : tk.isInterface = false := by
    have e : tk.isInterface = kT.isInterface := by rw [heT1]; rfl
    cases hkT.symm.trans hkP
    rw [e]
    exact hkPi
  have hselU : selectMethod (ev_e X).platform U.vm cellB.cls t = .method t := by
    rw [Launch.admits_selectMethod Y.admits]
    have z : selectMethod {} U.vm cellB.cls t = selectMethod {} (ev_s X).vm cellB.cls t := hW.alike.selectMethod _ _ _
    rw [z]
    exact q4
  obtain ⟨v, B, Y1, hpost, hgo⟩ := fw_virt (As := Bs) (ls := ls0) (b := b) Y C.1.1 hby (by rw [hml]; exact hls) hback (fun A q B z => by obtain ⟨g, mk, t, L, E, ce, -, -, ⟨⟨h', z, -⟩, -⟩, -⟩ := z; exact z) hinv ⟨k, file, ci, nt, t.cls, tk, hk, hkf, by rw [hkp]; exact hcp.1, hr2, ht2, hitf1⟩ hr1 ht2 hmethT1 (hsp _) hstT hlenT
    (by rw [hUH]; exact hcellB) (fun z hz => by rw [hz] at hoB; cases hoB) hselU habT hitf1
    (by have := State.methodNamed?_setVm (s := ev_s X) hW.alike y; rw [hmT] at this; exact this) ⟨Nat.le_of_eq (Nat.zero_add _), Nat.le_of_eq (Nat.zero_add _), hpreU C hP hS U hUH hW⟩
  obtain ⟨g', mk', t2, L, e1, e2, hq, e3, hLL, e4, e5⟩ := hpost
  have hqv : ∃ h9, Q1 v h9 := by
    obtain ⟨⟨v', h', hv, hq9, -⟩, -⟩ := hq
    cases hv
    exact ⟨h', hq9⟩
  obtain ⟨h9, hq9⟩ := hqv
  obtain ⟨hr8, hr9⟩ := lam_ret (ls0 := ls0) C Y1 hby hlk hre hRet hq9
  have e3' : B.locs = L := e3
  have e4' : B.cells = gCC G - hZ h := by rw [e4]; exact Nat.zero_add _
  have e5' : B.slots = gSS G - hL h := by rw [e5]; exact Nat.zero_add _
  rw [e4', e5'] at Y1
  exact ⟨v, B, U.calling g' mk' (Value.ref b :: Bs).toArray, t2, pcI + 3, Y1, by rw [e3']; exact hLL, hUH, e1, e2, hq, hr8, hr9, fun target htg => hfw U s' _ _ below' methk ck cell Y hby hfs (by rw [hUH]; exact hcell) hvm hsl _ (hgo _ htg)⟩
end LMC
