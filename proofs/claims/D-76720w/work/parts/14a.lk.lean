/-! THE CLASS THAT IS MADE FOR A LAMBDA: what its file says, what the tables hold of it, its forwarder's steps -/
def shpOf (w : Jvm.Cond) : Lambda.Shape := match w with
  | .lambdaSite _ _ _ σ => σ
  | _ => { iface := "", name := "", sam := ⟨[], none⟩, captured := [], kind := 0, implClass := "", implName := "", implDesc := ⟨[], none⟩, implItf := false, inst := ⟨[], none⟩ }
def snmOf (w : Jvm.Cond) : MethodName := match w with
  | .lambdaSite x _ _ _ => x
  | _ => ⟨"", "", ""⟩
def spcOf (w : Jvm.Cond) : Nat := match w with
  | .lambdaSite _ pc _ _ => pc
  | _ => 0
def sixOf (w : Jvm.Cond) : Nat := match w with
  | .lambdaSite _ _ i _ => i
  | _ => 0
def lmD (σ : Lambda.Shape) (dn : String) : ClassFile := (σ.file dn).getD { minorVersion := 0, majorVersion := 0, constantPool := #[], accessFlags := 0, thisClass := 0, superClass := 0, interfaces := #[], fields := #[], methods := #[], attributes := #[] }
def lmF (σ : Lambda.Shape) (dn : String) : Method := ((layoutMethods (lmD σ dn)).bind (·[1]?)).getD default
def lmY (σ : Lambda.Shape) (dn : String) : Array Field × Array FieldType × Array FieldType := (layoutFields (lmD σ dn) 0).getD (#[], #[], #[])
def lmFo (D : ClassFile) (Y : Array Field) (j i : Nat) : Bool := match D.constantPool[i]? with
  | some (.fieldref _ nt) => (match D.constantPool.nameAndType? nt with
    | some (name, _) => (Y.findIdx? (·.name == name) == some j) && (match Y[j]? with | some f => !f.isStatic && f.slot == j | none => false)
    | none => false)
  | _ => false
theorem lmFo_spec {D : ClassFile} {Y : Array Field} {j i : Nat} (h : lmFo D Y j i = true) : ∃ (cc nt : Nat) (name desc : String) (f : Field), D.constantPool[i]? = some (.fieldref cc nt) ∧ D.constantPool.nameAndType? nt = some (name, desc) ∧ Y.findIdx? (·.name == name) = some j ∧ Y[j]? = some f ∧ f.isStatic = false ∧ f.slot = j := by
  unfold lmFo at h
  split at h
  · next cc nt h1 =>
    split at h
    · next name desc h2 =>
      rw [Bool.and_eq_true] at h
      obtain ⟨h3, h4⟩ := h
      split at h4
      · next f h5 =>
        rw [Bool.and_eq_true] at h4
        exact ⟨cc, nt, name, desc, f, h1, h2, by simpa using h3, h5, by simpa using h4.1, by simpa using h4.2⟩
      · cases h4
    · cases h
  · cases h
def lmCl (D : ClassFile) (ci : Nat) (nm : String) : Bool := match D.constantPool[ci]? with
  | some (.class_ n) => (D.constantPool.string? n == some nm) && decide (ci ≠ D.thisClass)
  | _ => false
theorem lmCl_spec {D : ClassFile} {ci : Nat} {nm : String} (h : lmCl D ci nm = true) : ∃ n, D.constantPool[ci]? = some (.class_ n) ∧ D.constantPool.string? n = some nm ∧ ci ≠ D.thisClass := by
  unfold lmCl at h
  split at h
  · next n h1 =>
    rw [Bool.and_eq_true] at h
    exact ⟨n, h1, by simpa using h.1, by simpa using h.2⟩
  · cases h
/-- what the kernel reads off a shape: the forwarder's code, the places of the constants that it names -/
def LK (σ : Lambda.Shape) (dn : String) (bytes : ByteArray) (maxL : Nat) (ret : Option FieldType) (tys : List FieldType) (fs : List Nat) (mi ci nt : Nat) : Prop :=
  ((σ.file dn).isSome = true ∧ ((layoutMethods (lmD σ dn)).bind (·[1]?)).isSome = true ∧ (layoutFields (lmD σ dn) 0).isSome = true) ∧
  (((lmF σ dn).code.map fun c => (c.code.data.toList, c.maxLocals)) = some (bytes.data.toList, maxL) ∧ (lmF σ dn).accessFlags = 1 ∧ (lmF σ dn).sig.returnType = ret) ∧
  ((lmD σ dn).constantPool[mi]? = some (.methodref ci nt) ∧ (lmD σ dn).constantPool.className? ci = some σ.implClass ∧ (lmD σ dn).constantPool.nameAndType? nt = some (σ.implName, σ.implDesc.toString)) ∧
  lmCl (lmD σ dn) ci σ.implClass = true ∧ (∀ q ∈ fs.zipIdx, lmFo (lmD σ dn) (lmY σ dn).1 q.2 q.1 = true) ∧ (lmY σ dn).2.1.toList = tys ∧ plainName (dn ++ "$$Lambda") = true
theorem lm_facts {σ : Lambda.Shape} {dn : String} {bytes : ByteArray} {maxL : Nat} {ret : Option FieldType} {tys : List FieldType} {fs : List Nat} {mi ci nt : Nat} (K : LK σ dn bytes maxL ret tys fs mi ci nt) {e : Setting} {vm : Vm} {d c : ClassId} {dk : Class} (hd : vm.classes[d]? = some dk) (hn : dk.name = dn)
    (h0 : ∀ o k, vm.findClass "java/lang/Object" = some o → vm.classes[o]? = some k → k.instanceTypes = #[]) (h : Lambda.isMade e vm d σ c = true) :
    ∃ (k tk : Class) (file : ClassFile) (methk : Method) (ck : Code) (toy : ClassId) (t : MethodId), (vm.classes[c]? = some k ∧ k.name = dn ++ "$$Lambda" ∧ k.cf = some file ∧ file.constantPool = (lmD σ dn).constantPool) ∧
      (vm.method? ⟨c, 1⟩ = some methk ∧ methk.code = some ck ∧ ck.code = bytes ∧ ck.maxLocals = maxL ∧ methk.locks = false ∧ methk.accessFlags = 1 ∧ methk.sig.returnType = ret) ∧
      (vm.findClass σ.implClass = some toy ∧ vm.classes[toy]? = some tk ∧ ((methodIn toy σ.implName σ.implDesc.toString tk.isInterface none).ask e vm).1 = .ok t) ∧ (vm.methodReady c mi t ∧ vm.classReady c ci toy) ∧
      (∀ j i, fs[j]? = some i → ∃ f : Field, vm.fieldReady c i c f ∧ f.isStatic = false ∧ f.slot = j) ∧ k.instanceTypes.toList = tys := by
  obtain ⟨⟨k1, k2, k3⟩, ⟨k4, k5, k6⟩, ⟨k7, k8, k9⟩, k10, k11, k12, -⟩ := K
  obtain ⟨dk', k, ok, tk, file, cf, object, iface, toy, lay, methods, target, found, hd', hk, hfile, hcf, ho, -, hok, hlay, hms, ht, htk, hg, -, hrec, -, -, -, -, hpool, hmeth, hfl, hit, hres, -⟩ := Lambda.isMade_spec h
  cases hd.symm.trans hd'
  rw [hn] at hcf
  have eD : lmD σ dn = cf := by rw [lmD, hcf]; rfl
  have e0 := h0 _ _ ho hok
  rw [e0] at hlay hit
  have eY : lmY σ dn = lay := by
    rw [lmY, eD]
    rw [show (#[] : Array FieldType).size = 0 from rfl] at hlay
    rw [hlay]
    rfl
  rw [eD, hms] at k2
  obtain ⟨fw, hfw⟩ := Option.isSome_iff_exists.mp k2
  have eF : lmF σ dn = fw := by rw [lmF, eD, hms, hfw]; rfl
  obtain ⟨b, hb, hsame⟩ := hmeth 1 fw hfw
  simp only [Lambda.sameMethod, Bool.and_eq_true, decide_eq_true_eq] at hsame
  obtain ⟨⟨hnm, -, hsig, hfl9⟩, hcode⟩ := hsame
  rw [eF] at k4 k5 k6
  rw [eD] at k7 k8 k9 k10 k11
  rw [eY] at k11 k12
  obtain ⟨n, h14, hs14, hne⟩ := lmCl_spec k10
  cases hfc : fw.code with
  | none => rw [hfc] at k4; cases k4
  | some x =>
    cases hbc : b.code with
    | none => simp [hfc, hbc] at hcode
    | some y =>
      simp only [hfc, hbc, Bool.and_eq_true, decide_eq_true_eq] at hcode
      simp only [hfc, Option.map_some, Option.some.injEq, Prod.mk.injEq] at k4
      refine ⟨k, tk, file, b, y, toy, target, ⟨hk, by rw [hrec.1, hn], hfile, by rw [eD]; exact hpool.2.1⟩, ⟨by simp [Vm.method?, hk, hb], hbc, ?_, by rw [← hcode.1.1.1.1.2.1]; exact k4.2, ?_, by rw [← hfl9]; exact k5, by rw [← hsig]; exact k6⟩,
        ⟨ht, htk, hg⟩, ⟨⟨k, hk, hres mi _ (Lambda.resolvedOf_method k7 k8 ht htk k9 hg)⟩, ⟨k, hk, hres ci _ (Lambda.resolvedOf_class h14 hne hs14 ht)⟩⟩, fun j i hi => ?_, ?_⟩
      · rw [← hcode.1.1.1.1.2.2]
        exact ByteArray.ext (Array.ext' k4.1)
      · simp [Method.locks, Method.isSynchronized, ← hfl9, k5, hasFlag, Acc.synchronized]
      · obtain ⟨cc, nt9, name, desc, f, q1, q2, q3, q4, q5, q6⟩ := lmFo_spec (k11 (i, j) (by rw [List.mem_zipIdx_iff_getElem?]; exact hi))
        exact ⟨f, ⟨k, j, k, hk, hres i _ (Lambda.resolvedOf_field q1 q2 q3), hk, hfl j f q4⟩, q5, q6⟩
      · rw [hit.1]
        simpa using k12
section FW
variable {p : Program} {l : Launch} {e : Env} {R : Room} {s U : State} {m : MethodId} {args : Array Value} {below : List Frame} {meth : Method} {c : Code} {locs : List Loc} {cells slots : Nat} {bytes : ByteArray} {pc : Nat} {ls : Array Slot} {st : List Value} {target : State}
def fwF (m : MethodId) (pc : Nat) (ls : Array Slot) (st : List Value) : JFrame := { method := m, pc := pc, locals := ls, stack := st, locked := none }
theorem fw_get (Y : Stand p l e R s m args below meth c U locs cells slots) (hexec : p.tables.exec = Jvm.exec) (hb : c.code = bytes) {i j a : Nat} {v : Value} {f : Field} {cell : Cell} (h0 : decode bytes pc = .ok (.aload_n 0, 1)) (h1 : decode bytes (pc + 1) = .ok (.getfield i, 3))
    (hl : ls[0]? = some (.val (.ref a))) (hr : U.vm.fieldReady m.cls i m.cls f) (hst : f.isStatic = false) (hs : f.slot = j) (hcell : U.heap[a]? = some cell) (hk : cell.vm = .none) (hv : cell.slots[j]? = some v)
    (hrest : Steps p.tables e below (U.setTop (fwF m (pc + 4) ls (v :: st))) target) : Steps p.tables e below (U.setTop (fwF m pc ls st)) target := by
  have hs0 : U.topJava?.isSome := Y.here.top
  unfold fwF at hrest ⊢
  jvm_step Y.here [hexec, hb, h0, hl, Value.isRef]
  jvm_step Y.here [hexec, hb, h1, getfield.wp_ready (e := e) (s := U) (index := i) (c := m.cls) (a := a) (field := f) (rest := st) (cell := cell) (v := v) (f := { method := m, pc := pc + 1, locals := ls, stack := .ref a :: st, locked := none }) hs0 hr hst rfl hcell (by rw [hk]; simp) (by rw [hs]; exact hv)]
  exact hrest
theorem fw_aload (Y : Stand p l e R s m args below meth c U locs cells slots) (hexec : p.tables.exec = Jvm.exec) (hb : c.code = bytes) {k : Fin 4} {r : Option Nat} (h0 : decode bytes pc = .ok (.aload_n k, 1)) (hl : ls[(k : Nat)]? = some (.val (va_rf r)))
    (hrest : Steps p.tables e below (U.setTop (fwF m (pc + 1) ls (va_rf r :: st))) target) : Steps p.tables e below (U.setTop (fwF m pc ls st)) target := by
  unfold fwF at hrest ⊢
  cases r with
  | none =>
    have hl2 : ls[(k : Nat)]? = some (.val .null) := hl
    jvm_step Y.here [hexec, hb, h0, hl2, Value.isRef]
    exact hrest
  | some a =>
    have hl2 : ls[(k : Nat)]? = some (.val (.ref a)) := hl
    jvm_step Y.here [hexec, hb, h0, hl2, Value.isRef]
    exact hrest
theorem fw_iload (Y : Stand p l e R s m args below meth c U locs cells slots) (hexec : p.tables.exec = Jvm.exec) (hb : c.code = bytes) {k : Fin 4} {x : Int32} (h0 : decode bytes pc = .ok (.iload_n k, 1)) (hl : ls[(k : Nat)]? = some (.val (.int x)))
    (hrest : Steps p.tables e below (U.setTop (fwF m (pc + 1) ls (.int x :: st))) target) : Steps p.tables e below (U.setTop (fwF m pc ls st)) target := by
  unfold fwF at hrest ⊢
  jvm_step Y.here [hexec, hb, h0, hl]
  exact hrest
end FW
section FW2
variable {p : Program} {l : Launch} {e : Env} {R : Room} {s U : State} {m : MethodId} {args : Array Value} {below : List Frame} {meth : Method} {c : Code} {locs : List Loc} {cells slots : Nat} {bytes : ByteArray} {pc : Nat} {ls : Array Slot} {As : List Value}
variable {y : MethodName} {W9 : Nat} {Pre : Pt → Array Value → Prop} {Post : Pt → Array Value → Option Value → Pt → Prop} {PostX : Pt → Array Value → Addr → Pt → Prop}
theorem fw_static (Y : Stand p l e R s m args below meth c U locs cells slots) (hexec : p.tables.exec = Jvm.exec) (hb : c.code = bytes) (hsz : ls.size = c.maxLocals) (hback : vx_Back l R p e below s args y 3 0 Pre Post PostX) (hno : ∀ A q B, ¬ PostX A As.toArray q B) {mi : Nat} {t : MethodId} {tk : Class} {mt : Method}
    (hi : decode bytes pc = .ok (.invokestatic mi, 3)) (href : plainRef U e m.cls mi) (hready : U.vm.methodReady m.cls mi t) (htk : U.vm.classes[t.cls]? = some tk) (hmt : U.vm.method? t = some mt) (hpoly : signaturePolymorphic tk mt = false) (hst : mt.isStatic = true) (hin : tk.init = .initialized) (hlen : As.length = mt.sig.parameters.length)
    (hn : U.methodNamed? y = some t) (hpre : Pre ⟨U, locs, cells, slots⟩ As.toArray) :
    ∃ v B, Stand p l e R s m args below meth c B.U B.locs B.cells B.slots ∧ Post ⟨U, locs, cells, slots⟩ As.toArray v B ∧ ∀ target, Steps p.tables e below (B.U.setTop (fwF m (pc + 3) ls v.toList)) target → Steps p.tables e below (U.setTop (fwF m pc ls As.reverse)) target := by
  rcases hback m meth c ⟨U, locs, cells, slots⟩ (fwF m pc ls []) (.invokestatic mi) t As.toArray Y rfl hsz (by rw [hb]; exact hi) (Nat.le_refl 0) hn hpre with ⟨v, B, X', hpost, hsteps⟩ | ⟨q, B, X', hpost, hsteps⟩
  · refine ⟨v, B, X', hpost, fun target hrest => ?_⟩
    have hs0 : U.topJava?.isSome := Y.here.top
    have hrest2 : Steps p.tables e below (B.U.setTop { fwF m pc ls [] with pc := (fwF m pc ls []).pc + 3, stack := v.toList ++ (fwF m pc ls []).stack }) target := by
      rw [show v.toList ++ (fwF m pc ls []).stack = v.toList from List.append_nil _]
      exact hrest
    unfold fwF at hrest2 hsteps ⊢
    jvm_step Y.here [hexec, hb, hi, invokestatic.wp_ready (e := e) (s := U) (m := t) (k := tk) (meth := mt) (args := As) (rest := []) (f := { method := m, pc := pc, locals := ls, stack := As.reverse, locked := none }) hs0 href hready htk hmt hpoly hst hin hlen (List.append_nil _).symm]
    intro acts
    rw [doInvoke_state]
    exact hsteps.trans hrest2
  · exact (hno _ _ _ hpost).elim
theorem fw_virt (Y : Stand p l e R s m args below meth c U locs cells slots) (hexec : p.tables.exec = Jvm.exec) (hb : c.code = bytes) (hsz : ls.size = c.maxLocals) {b : Nat} (hback : vx_Back l R p e below s args y 3 0 Pre Post PostX) (hno : ∀ A q B, ¬ PostX A (Value.ref b :: As).toArray q B) {mi : Nat} {t : MethodId} {tk : Class} {mt : Method} {cell : Cell}
    (hi : decode bytes pc = .ok (.invokevirtual mi, 3)) (hnamed : namesAClass U m.cls mi) (hready : U.vm.methodReady m.cls mi t) (htk : U.vm.classes[t.cls]? = some tk) (hmt : U.vm.method? t = some mt) (hpoly : signaturePolymorphic tk mt = false) (hst : mt.isStatic = false) (hlen : As.length = mt.sig.parameters.length)
    (hcell : U.heap[b]? = some cell) (hobj : ∀ z, cell.vm ≠ .statics z) (hsel : selectMethod e.platform U.vm cell.cls t = .method t) (habs : mt.isAbstract = false) (hitf : tk.isInterface = false)
    (hn : U.methodNamed? y = some t) (hpre : Pre ⟨U, locs, cells, slots⟩ (Value.ref b :: As).toArray) :
    ∃ v B, Stand p l e R s m args below meth c B.U B.locs B.cells B.slots ∧ Post ⟨U, locs, cells, slots⟩ (Value.ref b :: As).toArray v B ∧ ∀ target, Steps p.tables e below (B.U.setTop (fwF m (pc + 3) ls v.toList)) target → Steps p.tables e below (U.setTop (fwF m pc ls (As.reverse ++ [.ref b]))) target := by
  rcases hback m meth c ⟨U, locs, cells, slots⟩ (fwF m pc ls []) (.invokevirtual mi) t (Value.ref b :: As).toArray Y rfl hsz (by rw [hb]; exact hi) (Nat.le_refl 0) hn hpre with ⟨v, B, X', hpost, hsteps⟩ | ⟨q, B, X', hpost, hsteps⟩
  · refine ⟨v, B, X', hpost, fun target hrest => ?_⟩
    have hs0 : U.topJava?.isSome := Y.here.top
    have hrest2 : Steps p.tables e below (B.U.setTop { fwF m pc ls [] with pc := (fwF m pc ls []).pc + 3, stack := v.toList ++ (fwF m pc ls []).stack }) target := by
      rw [show v.toList ++ (fwF m pc ls []).stack = v.toList from List.append_nil _]
      exact hrest
    unfold fwF at hrest2 hsteps ⊢
    jvm_step Y.here [hexec, hb, hi, invokevirtual.wp_ready (e := e) (s := U) (index := mi) (r := t) (m := t) (k := tk) (mk := tk) (rmeth := mt) (meth := mt) (args := As) (rest := []) (cell := cell) (a := b) (f := { method := m, pc := pc, locals := ls, stack := As.reverse ++ [.ref b], locked := none }) hs0 hnamed hready htk hmt hpoly hst hlen rfl hcell hobj hsel hmt habs htk hitf]
    intro acts
    rw [doInvoke_state]
    exact hsteps.trans hrest2
  · exact (hno _ _ _ hpost).elim
theorem fw_vret (Y : Stand p l e R s m args below meth c U locs cells slots) (hexec : p.tables.exec = Jvm.exec) (hb : c.code = bytes) (hlk : meth.locks = false) (hd : decode bytes pc = .ok (.return_, 1)) (hr : meth.sig.returnType = none) {fs : List Frame}
    (hleave : ∀ (f : JFrame) (acts : List Action), f.method = m → f.locked = none → f.entered = [] → (doReturn e (U.setTop f) acts none).1 = U.setFrames fs) : Steps p.tables e below (U.setTop (fwF m pc ls [])) (U.setFrames fs) := by
  unfold fwF
  jvm_step Y.here [Y.here.top, hexec, hb, hd, Y.method', hr]
  intro acts
  rw [hleave { method := m, pc := pc, locals := ls, stack := [], locked := none } acts rfl rfl rfl]
  exact Steps.refl _
theorem fw_zret (Y : Stand p l e R s m args below meth c U locs cells slots) (hexec : p.tables.exec = Jvm.exec) (hb : c.code = bytes) (hlk : meth.locks = false) (hd : decode bytes pc = .ok (.ireturn, 1)) (hr : meth.sig.returnType = some .boolean) {x : Int32} (hz : narrow .boolean (.int x) = .int x) {fs : List Frame}
    (hleave : ∀ (f : JFrame) (acts : List Action), f.method = m → f.locked = none → f.entered = [] → (doReturn e (U.setTop f) acts (some (.int x))).1 = U.setFrames fs) : Steps p.tables e below (U.setTop (fwF m pc ls [.int x])) (U.setFrames fs) := by
  unfold fwF
  jvm_step Y.here [Y.here.top, hexec, hb, hd, Y.method', hr, hz]
  intro acts
  rw [hleave { method := m, pc := pc, locals := ls, stack := [], locked := none } acts rfl rfl rfl]
  exact Steps.refl _
end FW2
