/-! GK: a walk's goal by its picture of the heap (P), its listed locals (lv) and its stack (st); the machine's context rides in one bundle X -/
abbrev Ev := Program × Launch × Env × Room × State × MethodId × Array Value × List Frame × Method × Code × (Nat → Prop) × Nat
abbrev ev_p (X : Ev) : Program := X.1
abbrev ev_l (X : Ev) : Launch := X.2.1
abbrev ev_e (X : Ev) : Env := X.2.2.1
abbrev ev_R (X : Ev) : Room := X.2.2.2.1
abbrev ev_s (X : Ev) : State := X.2.2.2.2.1
abbrev ev_m (X : Ev) : MethodId := X.2.2.2.2.2.1
abbrev ev_a (X : Ev) : Array Value := X.2.2.2.2.2.2.1
abbrev ev_b (X : Ev) : List Frame := X.2.2.2.2.2.2.2.1
abbrev ev_h (X : Ev) : Method := X.2.2.2.2.2.2.2.2.1
abbrev ev_c (X : Ev) : Code := X.2.2.2.2.2.2.2.2.2.1
abbrev ev_A (X : Ev) : Nat → Prop := X.2.2.2.2.2.2.2.2.2.2.1
abbrev ev_n (X : Ev) : Nat := X.2.2.2.2.2.2.2.2.2.2.2
abbrev gW (X : Ev) (H : Heap) (locs : List Loc) (cells slots : Nat) (Q : State → Prop) (g : JFrame) : Prop := W (ev_p X) (ev_l X) (ev_e X) (ev_R X) (ev_s X) (ev_m X) (ev_a X) (ev_b X) (ev_h X) (ev_c X) H locs cells slots Q g
def GK (X : Ev) (P : Heap → Prop) (cells slots : Nat) (Q : State → Prop) (pc : Nat) (lv : List (Nat × Value)) (st : List Value) : Prop :=
  ∀ (H : Heap) (locs : List Loc) (ls : Array Slot), P H → va_S (ev_A X) (ev_s X).heap H locs → lv_has ls (ev_n X) lv → gW X H locs cells slots Q (F0 (ev_m X) pc ls st)
/-- what a walk's rows ask of the context -/
def GC (X : Ev) (own : String) (cc : ByteArray) : Prop := (ev_p X).tables.exec = Jvm.exec ∧ (ev_c X).code = cc ∧ (ev_c X).maxLocals = ev_n X ∧ (ev_s X).vm.findClass own = some (ev_m X).cls ∧ (∀ w ∈ lw_all, w.before (ev_a X) (ev_s X) = true) ∧ (ev_h X).locks = false
section GKS
variable {X : Ev} {P : Heap → Prop} {cells slots : Nat} {Q : State → Prop} {own : String} {cc : ByteArray} {pc : Nat} {lv : List (Nat × Value)} {st : List Value}
theorem GK.at {p1 p2 : Nat} (h : p1 = p2) (k : GK X P cells slots Q p2 lv st) : GK X P cells slots Q p1 lv st := h ▸ k
theorem GK.sub {lv' : List (Nat × Value)} (ks : List Nat) (hl : lv_pick lv ks = lv') (k : GK X P cells slots Q pc lv' st) : GK X P cells slots Q pc lv st :=
  fun H locs ls hP hS h => k H locs ls hP hS (lv_sub h ks hl)
theorem GK.mono {P' : Heap → Prop} (h : ∀ H, P H → P' H) (k : GK X P' cells slots Q pc lv st) : GK X P cells slots Q pc lv st :=
  fun H locs ls hP hS hl => k H locs ls (h H hP) hS hl
theorem gk_iconst (C : GC X own cc) {n : Int} {v : Int32} (hdg : decode cc pc = .ok (.iconst n, 1)) (hv : Int32.ofInt n = v) (k : GK X P cells slots Q (pc + 1) lv (.int v :: st)) : GK X P cells slots Q pc lv (st) :=
  fun H locs ls hP hS hl => lv_iconst C.1 C.2.1 hdg hv (k H locs ls hP hS hl)
theorem gk_bipush (C : GC X own cc) {n : Int} {v : Int32} (hdg : decode cc pc = .ok (.bipush n, 2)) (hv : (Int8.ofInt n).toInt32 = v) (k : GK X P cells slots Q (pc + 2) lv (.int v :: st)) : GK X P cells slots Q pc lv (st) :=
  fun H locs ls hP hS hl => lv_bipush C.1 C.2.1 hdg hv (k H locs ls hP hS hl)
theorem gk_sipush (C : GC X own cc) {n : Int} {v : Int32} (hdg : decode cc pc = .ok (.sipush n, 3)) (hv : (Int16.ofInt n).toInt32 = v) (k : GK X P cells slots Q (pc + 3) lv (.int v :: st)) : GK X P cells slots Q pc lv (st) :=
  fun H locs ls hP hS hl => lv_sipush C.1 C.2.1 hdg hv (k H locs ls hP hS hl)
theorem gk_lconst (C : GC X own cc) {n : Fin 2} {v : Int64} (hdg : decode cc pc = .ok (.lconst n, 1)) (hv : Int64.ofNat (n : Nat) = v) (k : GK X P cells slots Q (pc + 1) lv (.long v :: st)) : GK X P cells slots Q pc lv (st) :=
  fun H locs ls hP hS hl => lv_lconst C.1 C.2.1 hdg hv (k H locs ls hP hS hl)
theorem gk_null (C : GC X own cc)  (hdg : decode cc pc = .ok (.aconst_null, 1)) (k : GK X P cells slots Q (pc + 1) lv (.null :: st)) : GK X P cells slots Q pc lv (st) :=
  fun H locs ls hP hS hl => lv_null C.1 C.2.1 hdg (k H locs ls hP hS hl)
theorem gk_ldc (C : GC X own cc) {index : Nat} {v : Int32} (hc : Jvm.Cond.constant own index v ∈ lw_all) (hdg : decode cc pc = .ok (.ldc index, 2)) (k : GK X P cells slots Q (pc + 2) lv (.int v :: st)) : GK X P cells slots Q pc lv (st) :=
  fun H locs ls hP hS hl => lv_ldc C.1 C.2.1 C.2.2.2.1 (C.2.2.2.2.1 _ hc) hdg (k H locs ls hP hS hl)
theorem gk_ldcw (C : GC X own cc) {index : Nat} {v : Int32} (hc : Jvm.Cond.constant own index v ∈ lw_all) (hdg : decode cc pc = .ok (.ldc_w index, 3)) (k : GK X P cells slots Q (pc + 3) lv (.int v :: st)) : GK X P cells slots Q pc lv (st) :=
  fun H locs ls hP hS hl => lv_ldcw C.1 C.2.1 C.2.2.2.1 (C.2.2.2.2.1 _ hc) hdg (k H locs ls hP hS hl)
theorem gk_ldcf (C : GC X own cc) {index : Nat} {v : UInt32} (hc : Jvm.Cond.constantFloat own index v ∈ lw_all) (hdg : decode cc pc = .ok (.ldc index, 2)) (k : GK X P cells slots Q (pc + 2) lv (.float v :: st)) : GK X P cells slots Q pc lv (st) :=
  fun H locs ls hP hS hl => lv_ldcf C.1 C.2.1 C.2.2.2.1 (C.2.2.2.2.1 _ hc) hdg (k H locs ls hP hS hl)
theorem gk_ldc2 (C : GC X own cc) {index : Nat} {v : Int64} (hc : Jvm.Cond.constantLong own index v ∈ lw_all) (hdg : decode cc pc = .ok (.ldc2_w index, 3)) (k : GK X P cells slots Q (pc + 3) lv (.long v :: st)) : GK X P cells slots Q pc lv (st) :=
  fun H locs ls hP hS hl => lv_ldc2 C.1 C.2.1 C.2.2.2.1 (C.2.2.2.2.1 _ hc) hdg (k H locs ls hP hS hl)
theorem gk_iload_n (C : GC X own cc) {k0 : Fin 4} {i : Nat} {x : Int32} (n : Nat) (hdg : decode cc pc = .ok (.iload_n k0, 1)) (hi : (k0 : Nat) = i) (hn : lv[n]? = some (i, .int x)) (k : GK X P cells slots Q (pc + 1) lv (.int x :: st)) : GK X P cells slots Q pc lv (st) :=
  fun H locs ls hP hS hl => lv_iload_n C.1 C.2.1 hdg hi (lv_at hl n hn) (k H locs ls hP hS hl)
theorem gk_iload (C : GC X own cc) {i : Nat} {x : Int32} (n : Nat) (hdg : decode cc pc = .ok (.iload i, 2)) (hn : lv[n]? = some (i, .int x)) (k : GK X P cells slots Q (pc + 2) lv (.int x :: st)) : GK X P cells slots Q pc lv (st) :=
  fun H locs ls hP hS hl => lv_iload C.1 C.2.1 hdg (lv_at hl n hn) (k H locs ls hP hS hl)
theorem gk_lload_n (C : GC X own cc) {k0 : Fin 4} {i : Nat} {x : Int64} (n : Nat) (hdg : decode cc pc = .ok (.lload_n k0, 1)) (hi : (k0 : Nat) = i) (hn : lv[n]? = some (i, .long x)) (k : GK X P cells slots Q (pc + 1) lv (.long x :: st)) : GK X P cells slots Q pc lv (st) :=
  fun H locs ls hP hS hl => lv_lload_n C.1 C.2.1 hdg hi (lv_at hl n hn) (k H locs ls hP hS hl)
theorem gk_lload (C : GC X own cc) {i : Nat} {x : Int64} (n : Nat) (hdg : decode cc pc = .ok (.lload i, 2)) (hn : lv[n]? = some (i, .long x)) (k : GK X P cells slots Q (pc + 2) lv (.long x :: st)) : GK X P cells slots Q pc lv (st) :=
  fun H locs ls hP hS hl => lv_lload C.1 C.2.1 hdg (lv_at hl n hn) (k H locs ls hP hS hl)
theorem gk_aload_n (C : GC X own cc) {k0 : Fin 4} {i : Nat} {x : Nat} (n : Nat) (hdg : decode cc pc = .ok (.aload_n k0, 1)) (hi : (k0 : Nat) = i) (hn : lv[n]? = some (i, .ref x)) (k : GK X P cells slots Q (pc + 1) lv (.ref x :: st)) : GK X P cells slots Q pc lv (st) :=
  fun H locs ls hP hS hl => lv_aload_n C.1 C.2.1 hdg hi (lv_at hl n hn) (k H locs ls hP hS hl)
theorem gk_aload (C : GC X own cc) {i : Nat} {x : Nat} (n : Nat) (hdg : decode cc pc = .ok (.aload i, 2)) (hn : lv[n]? = some (i, .ref x)) (k : GK X P cells slots Q (pc + 2) lv (.ref x :: st)) : GK X P cells slots Q pc lv (st) :=
  fun H locs ls hP hS hl => lv_aload C.1 C.2.1 hdg (lv_at hl n hn) (k H locs ls hP hS hl)
theorem gk_qload_n (C : GC X own cc) {k0 : Fin 4} {i : Nat} {x : Option Nat} (n : Nat) (hdg : decode cc pc = .ok (.aload_n k0, 1)) (hi : (k0 : Nat) = i) (hn : lv[n]? = some (i, va_rf x)) (k : GK X P cells slots Q (pc + 1) lv (va_rf x :: st)) : GK X P cells slots Q pc lv st := by
  cases x with
  | some y => exact fun H locs ls hP hS hl => lv_aload_n C.1 C.2.1 hdg hi (lv_at hl n hn) (k H locs ls hP hS hl)
  | none => exact fun H locs ls hP hS hl => lv_aload_nN C.1 C.2.1 hdg hi (lv_at hl n hn) (k H locs ls hP hS hl)
theorem gk_qload (C : GC X own cc) {i : Nat} {x : Option Nat} (n : Nat) (hdg : decode cc pc = .ok (.aload i, 2)) (hn : lv[n]? = some (i, va_rf x)) (k : GK X P cells slots Q (pc + 2) lv (va_rf x :: st)) : GK X P cells slots Q pc lv st := by
  cases x with
  | some y => exact fun H locs ls hP hS hl => lv_aload C.1 C.2.1 hdg (lv_at hl n hn) (k H locs ls hP hS hl)
  | none => exact fun H locs ls hP hS hl => lv_aloadN C.1 C.2.1 hdg (lv_at hl n hn) (k H locs ls hP hS hl)
theorem gk_istore_n (C : GC X own cc) {k0 : Fin 4} {i : Nat} {x : Int32} {lv' : List (Nat × Value)} (hdg : decode cc pc = .ok (.istore_n k0, 1)) (hi : (k0 : Nat) = i) (hn : i < ev_n X) (hv : (i, Value.int x) :: lv.filter (fun q => !(q.1 == i) && !(q.1 + 1 == i && q.2.category == 2)) = lv') (k : GK X P cells slots Q (pc + 1) lv' st) : GK X P cells slots Q pc lv (Value.int x :: st) :=
  fun H locs ls hP hS hl => lv_istore_n C.1 C.2.1 hdg hi hl hn hv (fun ls' hl' => k H locs ls' hP hS hl')
theorem gk_istore (C : GC X own cc) {i : Nat} {x : Int32} {lv' : List (Nat × Value)} (hdg : decode cc pc = .ok (.istore i, 2)) (hn : i < ev_n X) (hv : (i, Value.int x) :: lv.filter (fun q => !(q.1 == i) && !(q.1 + 1 == i && q.2.category == 2)) = lv') (k : GK X P cells slots Q (pc + 2) lv' st) : GK X P cells slots Q pc lv (Value.int x :: st) :=
  fun H locs ls hP hS hl => lv_istore C.1 C.2.1 hdg hl hn hv (fun ls' hl' => k H locs ls' hP hS hl')
theorem gk_lstore_n (C : GC X own cc) {k0 : Fin 4} {i : Nat} {x : Int64} {lv' : List (Nat × Value)} (hdg : decode cc pc = .ok (.lstore_n k0, 1)) (hi : (k0 : Nat) = i) (hn : i + 1 < ev_n X) (hv : (i, Value.long x) :: lv.filter (fun q => !(q.1 == i) && (!(q.1 == i + 1) && !(q.1 + 1 == i && q.2.category == 2))) = lv') (k : GK X P cells slots Q (pc + 1) lv' st) : GK X P cells slots Q pc lv (Value.long x :: st) :=
  fun H locs ls hP hS hl => lv_lstore_n C.1 C.2.1 hdg hi hl hn hv (fun ls' hl' => k H locs ls' hP hS hl')
theorem gk_lstore (C : GC X own cc) {i : Nat} {x : Int64} {lv' : List (Nat × Value)} (hdg : decode cc pc = .ok (.lstore i, 2)) (hn : i + 1 < ev_n X) (hv : (i, Value.long x) :: lv.filter (fun q => !(q.1 == i) && (!(q.1 == i + 1) && !(q.1 + 1 == i && q.2.category == 2))) = lv') (k : GK X P cells slots Q (pc + 2) lv' st) : GK X P cells slots Q pc lv (Value.long x :: st) :=
  fun H locs ls hP hS hl => lv_lstore C.1 C.2.1 hdg hl hn hv (fun ls' hl' => k H locs ls' hP hS hl')
theorem gk_astore_n (C : GC X own cc) {k0 : Fin 4} {i : Nat} {x : Nat} {lv' : List (Nat × Value)} (hdg : decode cc pc = .ok (.astore_n k0, 1)) (hi : (k0 : Nat) = i) (hn : i < ev_n X) (hv : (i, Value.ref x) :: lv.filter (fun q => !(q.1 == i) && !(q.1 + 1 == i && q.2.category == 2)) = lv') (k : GK X P cells slots Q (pc + 1) lv' st) : GK X P cells slots Q pc lv (Value.ref x :: st) :=
  fun H locs ls hP hS hl => lv_astore_n C.1 C.2.1 hdg hi hl hn hv (fun ls' hl' => k H locs ls' hP hS hl')
theorem gk_astore (C : GC X own cc) {i : Nat} {x : Nat} {lv' : List (Nat × Value)} (hdg : decode cc pc = .ok (.astore i, 2)) (hn : i < ev_n X) (hv : (i, Value.ref x) :: lv.filter (fun q => !(q.1 == i) && !(q.1 + 1 == i && q.2.category == 2)) = lv') (k : GK X P cells slots Q (pc + 2) lv' st) : GK X P cells slots Q pc lv (Value.ref x :: st) :=
  fun H locs ls hP hS hl => lv_astore C.1 C.2.1 hdg hl hn hv (fun ls' hl' => k H locs ls' hP hS hl')
theorem gk_qstore_n (C : GC X own cc) {k0 : Fin 4} {i : Nat} {x : Option Nat} {lv' : List (Nat × Value)} (hdg : decode cc pc = .ok (.astore_n k0, 1)) (hi : (k0 : Nat) = i) (hn : i < ev_n X) (hv : (i, va_rf x) :: lv.filter (fun q => !(q.1 == i) && !(q.1 + 1 == i && q.2.category == 2)) = lv') (k : GK X P cells slots Q (pc + 1) lv' st) : GK X P cells slots Q pc lv (va_rf x :: st) := by
  cases x with
  | some y => exact fun H locs ls hP hS hl => lv_astore_n C.1 C.2.1 hdg hi hl hn hv (fun ls' hl' => k H locs ls' hP hS hl')
  | none => exact fun H locs ls hP hS hl => lv_astore_nN C.1 C.2.1 hdg hi hl hn hv (fun ls' hl' => k H locs ls' hP hS hl')
theorem gk_qstore (C : GC X own cc) {i : Nat} {x : Option Nat} {lv' : List (Nat × Value)} (hdg : decode cc pc = .ok (.astore i, 2)) (hn : i < ev_n X) (hv : (i, va_rf x) :: lv.filter (fun q => !(q.1 == i) && !(q.1 + 1 == i && q.2.category == 2)) = lv') (k : GK X P cells slots Q (pc + 2) lv' st) : GK X P cells slots Q pc lv (va_rf x :: st) := by
  cases x with
  | some y => exact fun H locs ls hP hS hl => lv_astore C.1 C.2.1 hdg hl hn hv (fun ls' hl' => k H locs ls' hP hS hl')
  | none => exact fun H locs ls hP hS hl => lv_astoreN C.1 C.2.1 hdg hl hn hv (fun ls' hl' => k H locs ls' hP hS hl')
theorem gk_iinc (C : GC X own cc) {i : Nat} {n : Int} {x v : Int32} {lv' : List (Nat × Value)} (k0 : Nat) (hdg : decode cc pc = .ok (.iinc i n, 3)) (hk : lv[k0]? = some (i, .int x)) (hx : x + Int32.ofInt n = v) (hn : i < ev_n X) (hv : (i, Value.int v) :: lv.filter (fun q => !(q.1 == i) && !(q.1 + 1 == i && q.2.category == 2)) = lv') (k : GK X P cells slots Q (pc + 3) lv' st) : GK X P cells slots Q pc lv st :=
  fun H locs ls hP hS hl => lv_iinc C.1 C.2.1 hdg hl hk hx hn hv (fun ls' hl' => k H locs ls' hP hS hl')
theorem gk_iadd (C : GC X own cc) {x y : Int32} (hdg : decode cc pc = .ok (.iadd, 1)) (k : GK X P cells slots Q (pc + 1) lv (.int (x + y) :: st)) : GK X P cells slots Q pc lv (.int y :: .int x :: st) :=
  fun H locs ls hP hS hl => lv_iadd C.1 C.2.1 hdg (k H locs ls hP hS hl)
theorem gk_isub (C : GC X own cc) {x y : Int32} (hdg : decode cc pc = .ok (.isub, 1)) (k : GK X P cells slots Q (pc + 1) lv (.int (x - y) :: st)) : GK X P cells slots Q pc lv (.int y :: .int x :: st) :=
  fun H locs ls hP hS hl => lv_isub C.1 C.2.1 hdg (k H locs ls hP hS hl)
theorem gk_imul (C : GC X own cc) {x y : Int32} (hdg : decode cc pc = .ok (.imul, 1)) (k : GK X P cells slots Q (pc + 1) lv (.int (x * y) :: st)) : GK X P cells slots Q pc lv (.int y :: .int x :: st) :=
  fun H locs ls hP hS hl => lv_imul C.1 C.2.1 hdg (k H locs ls hP hS hl)
theorem gk_iand (C : GC X own cc) {x y : Int32} (hdg : decode cc pc = .ok (.iand, 1)) (k : GK X P cells slots Q (pc + 1) lv (.int (x &&& y) :: st)) : GK X P cells slots Q pc lv (.int y :: .int x :: st) :=
  fun H locs ls hP hS hl => lv_iand C.1 C.2.1 hdg (k H locs ls hP hS hl)
theorem gk_ior (C : GC X own cc) {x y : Int32} (hdg : decode cc pc = .ok (.ior, 1)) (k : GK X P cells slots Q (pc + 1) lv (.int (x ||| y) :: st)) : GK X P cells slots Q pc lv (.int y :: .int x :: st) :=
  fun H locs ls hP hS hl => lv_ior C.1 C.2.1 hdg (k H locs ls hP hS hl)
theorem gk_ixor (C : GC X own cc) {x y : Int32} (hdg : decode cc pc = .ok (.ixor, 1)) (k : GK X P cells slots Q (pc + 1) lv (.int (x ^^^ y) :: st)) : GK X P cells slots Q pc lv (.int y :: .int x :: st) :=
  fun H locs ls hP hS hl => lv_ixor C.1 C.2.1 hdg (k H locs ls hP hS hl)
theorem gk_ishl (C : GC X own cc) {x y : Int32} (hdg : decode cc pc = .ok (.ishl, 1)) (k : GK X P cells slots Q (pc + 1) lv (.int (x <<< (y &&& 31)) :: st)) : GK X P cells slots Q pc lv (.int y :: .int x :: st) :=
  fun H locs ls hP hS hl => lv_ishl C.1 C.2.1 hdg (k H locs ls hP hS hl)
theorem gk_ishr (C : GC X own cc) {x y : Int32} (hdg : decode cc pc = .ok (.ishr, 1)) (k : GK X P cells slots Q (pc + 1) lv (.int (x >>> (y &&& 31)) :: st)) : GK X P cells slots Q pc lv (.int y :: .int x :: st) :=
  fun H locs ls hP hS hl => lv_ishr C.1 C.2.1 hdg (k H locs ls hP hS hl)
theorem gk_idiv (C : GC X own cc) {x y : Int32} (hdg : decode cc pc = .ok (.idiv, 1)) (hne : ¬ y = 0) (k : GK X P cells slots Q (pc + 1) lv (.int (x / y) :: st)) : GK X P cells slots Q pc lv (.int y :: .int x :: st) :=
  fun H locs ls hP hS hl => lv_idiv C.1 C.2.1 hdg hne (k H locs ls hP hS hl)
theorem gk_irem (C : GC X own cc) {x y : Int32} (hdg : decode cc pc = .ok (.irem, 1)) (hne : ¬ y = 0) (k : GK X P cells slots Q (pc + 1) lv (.int (x - x / y * y) :: st)) : GK X P cells slots Q pc lv (.int y :: .int x :: st) :=
  fun H locs ls hP hS hl => lv_irem C.1 C.2.1 hdg hne (k H locs ls hP hS hl)
theorem gk_ladd (C : GC X own cc) {x y : Int64} (hdg : decode cc pc = .ok (.ladd, 1)) (k : GK X P cells slots Q (pc + 1) lv (.long (x + y) :: st)) : GK X P cells slots Q pc lv (.long y :: .long x :: st) :=
  fun H locs ls hP hS hl => lv_ladd C.1 C.2.1 hdg (k H locs ls hP hS hl)
theorem gk_lsub (C : GC X own cc) {x y : Int64} (hdg : decode cc pc = .ok (.lsub, 1)) (k : GK X P cells slots Q (pc + 1) lv (.long (x - y) :: st)) : GK X P cells slots Q pc lv (.long y :: .long x :: st) :=
  fun H locs ls hP hS hl => lv_lsub C.1 C.2.1 hdg (k H locs ls hP hS hl)
theorem gk_lmul (C : GC X own cc) {x y : Int64} (hdg : decode cc pc = .ok (.lmul, 1)) (k : GK X P cells slots Q (pc + 1) lv (.long (x * y) :: st)) : GK X P cells slots Q pc lv (.long y :: .long x :: st) :=
  fun H locs ls hP hS hl => lv_lmul C.1 C.2.1 hdg (k H locs ls hP hS hl)
theorem gk_ldiv (C : GC X own cc) {x y : Int64} (hdg : decode cc pc = .ok (.ldiv, 1)) (hne : ¬ y = 0) (k : GK X P cells slots Q (pc + 1) lv (.long (x / y) :: st)) : GK X P cells slots Q pc lv (.long y :: .long x :: st) :=
  fun H locs ls hP hS hl => lv_ldiv C.1 C.2.1 hdg hne (k H locs ls hP hS hl)
theorem gk_lrem (C : GC X own cc) {x y : Int64} (hdg : decode cc pc = .ok (.lrem, 1)) (hne : ¬ y = 0) (k : GK X P cells slots Q (pc + 1) lv (.long (x - x / y * y) :: st)) : GK X P cells slots Q pc lv (.long y :: .long x :: st) :=
  fun H locs ls hP hS hl => lv_lrem C.1 C.2.1 hdg hne (k H locs ls hP hS hl)
theorem gk_ineg (C : GC X own cc) {x : Int32} (hdg : decode cc pc = .ok (.ineg, 1)) (k : GK X P cells slots Q (pc + 1) lv (.int (-x) :: st)) : GK X P cells slots Q pc lv (.int x :: st) :=
  fun H locs ls hP hS hl => lv_ineg C.1 C.2.1 hdg (k H locs ls hP hS hl)
theorem gk_iushr (C : GC X own cc) {x y : Int32} (hdg : decode cc pc = .ok (.iushr, 1)) (k : GK X P cells slots Q (pc + 1) lv (.int (x.toUInt32 >>> (y.toUInt32 &&& Int32.toUInt32 31)).toInt32 :: st)) : GK X P cells slots Q pc lv (.int y :: .int x :: st) :=
  fun H locs ls hP hS hl => lv_iushr C.1 C.2.1 hdg rfl (k H locs ls hP hS hl)
theorem gk_i2l (C : GC X own cc) {x : Int32} (hdg : decode cc pc = .ok (.i2l, 1)) (k : GK X P cells slots Q (pc + 1) lv (.long x.toInt64 :: st)) : GK X P cells slots Q pc lv (.int x :: st) :=
  fun H locs ls hP hS hl => lv_i2l C.1 C.2.1 hdg rfl (k H locs ls hP hS hl)
theorem gk_l2i (C : GC X own cc) {x : Int64} (hdg : decode cc pc = .ok (.l2i, 1)) (k : GK X P cells slots Q (pc + 1) lv (.int x.toInt32 :: st)) : GK X P cells slots Q pc lv (.long x :: st) :=
  fun H locs ls hP hS hl => lv_l2i C.1 C.2.1 hdg rfl (k H locs ls hP hS hl)
theorem gk_i2b (C : GC X own cc) {x : Int32} (hdg : decode cc pc = .ok (.i2b, 1)) (k : GK X P cells slots Q (pc + 1) lv (.int x.toInt8.toInt32 :: st)) : GK X P cells slots Q pc lv (.int x :: st) :=
  fun H locs ls hP hS hl => lv_i2b C.1 C.2.1 hdg rfl (k H locs ls hP hS hl)
theorem gk_i2c (C : GC X own cc) {x : Int32} (hdg : decode cc pc = .ok (.i2c, 1)) (k : GK X P cells slots Q (pc + 1) lv (.int (x.toUInt32 % 65536).toInt32 :: st)) : GK X P cells slots Q pc lv (.int x :: st) :=
  fun H locs ls hP hS hl => lv_i2c C.1 C.2.1 hdg rfl (k H locs ls hP hS hl)
theorem gk_lcmp (C : GC X own cc) {x y : Int64} (hdg : decode cc pc = .ok (.lcmp, 1)) (k : GK X P cells slots Q (pc + 1) lv (.int (lg_cmp x y) :: st)) : GK X P cells slots Q pc lv (.long y :: .long x :: st) :=
  fun H locs ls hP hS hl => W.lcmp C.1 C.2.1 hdg (k H locs ls hP hS hl)
theorem gk_dup (C : GC X own cc) {va : Value} (hdg : decode cc pc = .ok (.dup, 1)) (hva : va.category = 1) (k : GK X P cells slots Q (pc + 1) lv (va :: va :: st)) : GK X P cells slots Q pc lv (va :: st) :=
  fun H locs ls hP hS hl => lv_dup C.1 C.2.1 hdg hva (k H locs ls hP hS hl)
theorem gk_pop (C : GC X own cc) {va : Value} (hdg : decode cc pc = .ok (.pop, 1)) (hva : va.category = 1) (k : GK X P cells slots Q (pc + 1) lv (st)) : GK X P cells slots Q pc lv (va :: st) :=
  fun H locs ls hP hS hl => lv_pop C.1 C.2.1 hdg hva (k H locs ls hP hS hl)
theorem gk_dup_x1 (C : GC X own cc) {va vb : Value} (hdg : decode cc pc = .ok (.dup_x1, 1)) (hva : va.category = 1) (hvb : vb.category = 1) (k : GK X P cells slots Q (pc + 1) lv (va :: vb :: va :: st)) : GK X P cells slots Q pc lv (va :: vb :: st) :=
  fun H locs ls hP hS hl => lv_dup_x1 C.1 C.2.1 hdg hva hvb (k H locs ls hP hS hl)
theorem gk_dup_x2 (C : GC X own cc) {va vb vd : Value} (hdg : decode cc pc = .ok (.dup_x2, 1)) (hva : va.category = 1) (hvb : vb.category = 1) (hvd : vd.category = 1) (k : GK X P cells slots Q (pc + 1) lv (va :: vb :: vd :: va :: st)) : GK X P cells slots Q pc lv (va :: vb :: vd :: st) :=
  fun H locs ls hP hS hl => lv_dup_x2 C.1 C.2.1 hdg hva hvb hvd (k H locs ls hP hS hl)
theorem gk_dup2 (C : GC X own cc) {va vb : Value} (hdg : decode cc pc = .ok (.dup2, 1)) (hva : va.category = 1) (hvb : vb.category = 1) (k : GK X P cells slots Q (pc + 1) lv (va :: vb :: va :: vb :: st)) : GK X P cells slots Q pc lv (va :: vb :: st) :=
  fun H locs ls hP hS hl => lv_dup2_11 C.1 C.2.1 hdg hva hvb (k H locs ls hP hS hl)
theorem va_rf_cat (x : Option Nat) : (va_rf x).category = 1 := by cases x <;> rfl
theorem gk_if_eq (C : GC X own cc) {x : Int32} {off : Int} {tgt : Nat} (hdg : decode cc pc = .ok (.ifCond .eq off, 3)) (ht : (pc : Int) + off = (tgt : Int)) (kt : x = 0 → GK X P cells slots Q tgt lv st) (kf : ¬ x = 0 → GK X P cells slots Q (pc + 3) lv st) : GK X P cells slots Q pc lv (.int x :: st) :=
  fun H locs ls hP hS hl => lv_if_eq C.1 C.2.1 hdg ht (fun z => kt z H locs ls hP hS hl) (fun z => kf z H locs ls hP hS hl)
theorem gk_icmp_eq (C : GC X own cc) {x y : Int32} {off : Int} {tgt : Nat} (hdg : decode cc pc = .ok (.if_icmp .eq off, 3)) (ht : (pc : Int) + off = (tgt : Int)) (kt : x = y → GK X P cells slots Q tgt lv st) (kf : ¬ x = y → GK X P cells slots Q (pc + 3) lv st) : GK X P cells slots Q pc lv (.int y :: .int x :: st) :=
  fun H locs ls hP hS hl => lv_icmp_eq C.1 C.2.1 hdg ht (fun z => kt z H locs ls hP hS hl) (fun z => kf z H locs ls hP hS hl)
theorem gk_if_ne (C : GC X own cc) {x : Int32} {off : Int} {tgt : Nat} (hdg : decode cc pc = .ok (.ifCond .ne off, 3)) (ht : (pc : Int) + off = (tgt : Int)) (kt : ¬ x = 0 → GK X P cells slots Q tgt lv st) (kf : x = 0 → GK X P cells slots Q (pc + 3) lv st) : GK X P cells slots Q pc lv (.int x :: st) :=
  fun H locs ls hP hS hl => lv_if_ne C.1 C.2.1 hdg ht (fun z => kt z H locs ls hP hS hl) (fun z => kf z H locs ls hP hS hl)
theorem gk_icmp_ne (C : GC X own cc) {x y : Int32} {off : Int} {tgt : Nat} (hdg : decode cc pc = .ok (.if_icmp .ne off, 3)) (ht : (pc : Int) + off = (tgt : Int)) (kt : ¬ x = y → GK X P cells slots Q tgt lv st) (kf : x = y → GK X P cells slots Q (pc + 3) lv st) : GK X P cells slots Q pc lv (.int y :: .int x :: st) :=
  fun H locs ls hP hS hl => lv_icmp_ne C.1 C.2.1 hdg ht (fun z => kt z H locs ls hP hS hl) (fun z => kf z H locs ls hP hS hl)
theorem gk_if_lt (C : GC X own cc) {x : Int32} {off : Int} {tgt : Nat} (hdg : decode cc pc = .ok (.ifCond .lt off, 3)) (ht : (pc : Int) + off = (tgt : Int)) (kt : x < 0 → GK X P cells slots Q tgt lv st) (kf : ¬ x < 0 → GK X P cells slots Q (pc + 3) lv st) : GK X P cells slots Q pc lv (.int x :: st) :=
  fun H locs ls hP hS hl => lv_if_lt C.1 C.2.1 hdg ht (fun z => kt z H locs ls hP hS hl) (fun z => kf z H locs ls hP hS hl)
theorem gk_icmp_lt (C : GC X own cc) {x y : Int32} {off : Int} {tgt : Nat} (hdg : decode cc pc = .ok (.if_icmp .lt off, 3)) (ht : (pc : Int) + off = (tgt : Int)) (kt : x < y → GK X P cells slots Q tgt lv st) (kf : ¬ x < y → GK X P cells slots Q (pc + 3) lv st) : GK X P cells slots Q pc lv (.int y :: .int x :: st) :=
  fun H locs ls hP hS hl => lv_icmp_lt C.1 C.2.1 hdg ht (fun z => kt z H locs ls hP hS hl) (fun z => kf z H locs ls hP hS hl)
theorem gk_if_ge (C : GC X own cc) {x : Int32} {off : Int} {tgt : Nat} (hdg : decode cc pc = .ok (.ifCond .ge off, 3)) (ht : (pc : Int) + off = (tgt : Int)) (kt : 0 ≤ x → GK X P cells slots Q tgt lv st) (kf : ¬ 0 ≤ x → GK X P cells slots Q (pc + 3) lv st) : GK X P cells slots Q pc lv (.int x :: st) :=
  fun H locs ls hP hS hl => lv_if_ge C.1 C.2.1 hdg ht (fun z => kt z H locs ls hP hS hl) (fun z => kf z H locs ls hP hS hl)
theorem gk_icmp_ge (C : GC X own cc) {x y : Int32} {off : Int} {tgt : Nat} (hdg : decode cc pc = .ok (.if_icmp .ge off, 3)) (ht : (pc : Int) + off = (tgt : Int)) (kt : y ≤ x → GK X P cells slots Q tgt lv st) (kf : ¬ y ≤ x → GK X P cells slots Q (pc + 3) lv st) : GK X P cells slots Q pc lv (.int y :: .int x :: st) :=
  fun H locs ls hP hS hl => lv_icmp_ge C.1 C.2.1 hdg ht (fun z => kt z H locs ls hP hS hl) (fun z => kf z H locs ls hP hS hl)
theorem gk_if_gt (C : GC X own cc) {x : Int32} {off : Int} {tgt : Nat} (hdg : decode cc pc = .ok (.ifCond .gt off, 3)) (ht : (pc : Int) + off = (tgt : Int)) (kt : 0 < x → GK X P cells slots Q tgt lv st) (kf : ¬ 0 < x → GK X P cells slots Q (pc + 3) lv st) : GK X P cells slots Q pc lv (.int x :: st) :=
  fun H locs ls hP hS hl => lv_if_gt C.1 C.2.1 hdg ht (fun z => kt z H locs ls hP hS hl) (fun z => kf z H locs ls hP hS hl)
theorem gk_icmp_gt (C : GC X own cc) {x y : Int32} {off : Int} {tgt : Nat} (hdg : decode cc pc = .ok (.if_icmp .gt off, 3)) (ht : (pc : Int) + off = (tgt : Int)) (kt : y < x → GK X P cells slots Q tgt lv st) (kf : ¬ y < x → GK X P cells slots Q (pc + 3) lv st) : GK X P cells slots Q pc lv (.int y :: .int x :: st) :=
  fun H locs ls hP hS hl => lv_icmp_gt C.1 C.2.1 hdg ht (fun z => kt z H locs ls hP hS hl) (fun z => kf z H locs ls hP hS hl)
theorem gk_if_le (C : GC X own cc) {x : Int32} {off : Int} {tgt : Nat} (hdg : decode cc pc = .ok (.ifCond .le off, 3)) (ht : (pc : Int) + off = (tgt : Int)) (kt : x ≤ 0 → GK X P cells slots Q tgt lv st) (kf : ¬ x ≤ 0 → GK X P cells slots Q (pc + 3) lv st) : GK X P cells slots Q pc lv (.int x :: st) :=
  fun H locs ls hP hS hl => lv_if_le C.1 C.2.1 hdg ht (fun z => kt z H locs ls hP hS hl) (fun z => kf z H locs ls hP hS hl)
theorem gk_icmp_le (C : GC X own cc) {x y : Int32} {off : Int} {tgt : Nat} (hdg : decode cc pc = .ok (.if_icmp .le off, 3)) (ht : (pc : Int) + off = (tgt : Int)) (kt : x ≤ y → GK X P cells slots Q tgt lv st) (kf : ¬ x ≤ y → GK X P cells slots Q (pc + 3) lv st) : GK X P cells slots Q pc lv (.int y :: .int x :: st) :=
  fun H locs ls hP hS hl => lv_icmp_le C.1 C.2.1 hdg ht (fun z => kt z H locs ls hP hS hl) (fun z => kf z H locs ls hP hS hl)
theorem gk_acmp_eq (C : GC X own cc) {rx ry : Option Nat} {off : Int} {tgt : Nat} (hdg : decode cc pc = .ok (.if_acmp .eq off, 3)) (ht : (pc : Int) + off = (tgt : Int)) (kt : rx = ry → GK X P cells slots Q tgt lv st) (kf : ¬ rx = ry → GK X P cells slots Q (pc + 3) lv st) : GK X P cells slots Q pc lv (va_rf ry :: va_rf rx :: st) :=
  fun H locs ls hP hS hl => lv_acmp_eq C.1 C.2.1 hdg ht (fun z => kt z H locs ls hP hS hl) (fun z => kf z H locs ls hP hS hl)
theorem gk_acmp_ne (C : GC X own cc) {rx ry : Option Nat} {off : Int} {tgt : Nat} (hdg : decode cc pc = .ok (.if_acmp .ne off, 3)) (ht : (pc : Int) + off = (tgt : Int)) (kt : ¬ rx = ry → GK X P cells slots Q tgt lv st) (kf : rx = ry → GK X P cells slots Q (pc + 3) lv st) : GK X P cells slots Q pc lv (va_rf ry :: va_rf rx :: st) :=
  fun H locs ls hP hS hl => lv_acmp_ne C.1 C.2.1 hdg ht (fun z => kt z H locs ls hP hS hl) (fun z => kf z H locs ls hP hS hl)
theorem gk_ifnull (C : GC X own cc) {x : Option Nat} {off : Int} {tgt : Nat} (hdg : decode cc pc = .ok (.ifnull off, 3)) (ht : (pc : Int) + off = (tgt : Int)) (kt : x = none → GK X P cells slots Q tgt lv st) (kf : ¬ x = none → GK X P cells slots Q (pc + 3) lv st) : GK X P cells slots Q pc lv (va_rf x :: st) := by
  cases x with
  | none => exact fun H locs ls hP hS hl => lv_ifnullN C.1 C.2.1 hdg ht (kt rfl H locs ls hP hS hl)
  | some y => exact fun H locs ls hP hS hl => lv_ifnull C.1 C.2.1 hdg (kf (by simp) H locs ls hP hS hl)
theorem gk_ifnonnull (C : GC X own cc) {x : Option Nat} {off : Int} {tgt : Nat} (hdg : decode cc pc = .ok (.ifnonnull off, 3)) (ht : (pc : Int) + off = (tgt : Int)) (kt : ¬ x = none → GK X P cells slots Q tgt lv st) (kf : x = none → GK X P cells slots Q (pc + 3) lv st) : GK X P cells slots Q pc lv (va_rf x :: st) := by
  cases x with
  | none => exact fun H locs ls hP hS hl => lv_ifnonnullN C.1 C.2.1 hdg (kf rfl H locs ls hP hS hl)
  | some y => exact fun H locs ls hP hS hl => lv_ifnonnull C.1 C.2.1 hdg ht (kt (by simp) H locs ls hP hS hl)
theorem gk_goto (C : GC X own cc) {off : Int} {tgt : Nat} (hdg : decode cc pc = .ok (.goto off, 3)) (ht : (pc : Int) + off = (tgt : Int)) (k : GK X P cells slots Q tgt lv st) : GK X P cells slots Q pc lv st :=
  fun H locs ls hP hS hl => lv_goto C.1 C.2.1 hdg ht (k H locs ls hP hS hl)
theorem gk_tableIn (C : GC X own cc) {dflt lo hi : Int} {offs : Array Int} {len : Nat} {x : Int32} {off : Int} {tgt : Nat} (hdg : decode cc pc = .ok (.tableswitch dflt lo hi offs, len)) (h1 : ¬ x.toInt < lo) (h2 : ¬ hi < x.toInt) (ho : offs[(x.toInt - lo).toNat]? = some off) (ht : (pc : Int) + off = (tgt : Int)) (k : GK X P cells slots Q tgt lv st) : GK X P cells slots Q pc lv (.int x :: st) :=
  fun H locs ls hP hS hl => lv_tableIn C.1 C.2.1 hdg h1 h2 ho ht (k H locs ls hP hS hl)
theorem gk_tableOut (C : GC X own cc) {dflt lo hi : Int} {offs : Array Int} {len : Nat} {x : Int32} {tgt : Nat} (hdg : decode cc pc = .ok (.tableswitch dflt lo hi offs, len)) (h : x.toInt < lo ∨ hi < x.toInt) (ht : (pc : Int) + dflt = (tgt : Int)) (k : GK X P cells slots Q tgt lv st) : GK X P cells slots Q pc lv (.int x :: st) :=
  fun H locs ls hP hS hl => lv_tableOut C.1 C.2.1 hdg h ht (k H locs ls hP hS hl)
theorem gk_lookup (C : GC X own cc) {dflt : Int} {ps : Array (Int × Int)} {len : Nat} {x : Int32} {off : Int} {tgt : Nat} (hdg : decode cc pc = .ok (.lookupswitch dflt ps, len)) (hp : (ps.toList.zip (ps.toList.drop 1)).all (fun (a, next) => a.1 < next.1) = true) (ho : Op.lookupswitch.offset ps.toList dflt x.toInt = off) (ht : (pc : Int) + off = (tgt : Int)) (k : GK X P cells slots Q tgt lv st) : GK X P cells slots Q pc lv (.int x :: st) :=
  fun H locs ls hP hS hl => lv_lookup C.1 C.2.1 hdg hp ho ht (k H locs ls hP hS hl)
end GKS
