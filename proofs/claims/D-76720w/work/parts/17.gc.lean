/-! THE CONTEXT of a walk in the component: what the tables say, what the statics hold -/
def tysL (G : GG) : List (ClassId × FieldType) := tyT.map (fun t => (gAr G t, tyA t))
/-- the words of the tables that ride, beside the good ones -/
def rwW (w : Cond) : Bool := match w with
  | .fieldLinkNest _ _ _ _ _ _ => true
  | .methodLinkNest _ _ _ _ => true
  | .castable _ _ => true
  | .declares _ => true
  | _ => false
def LSite (x : MethodName) (pc index : Nat) (σ : Lambda.Shape) (c : ClassId) (one : Option Nat) (U : State) : Prop :=
  ∃ (m : MethodId) (k : Class) (cf : ClassFile) (i0 p0 : Nat) (l : Linked), U.methodNamed? x = some m ∧ U.vm.classes[m.cls]? = some k ∧ k.cf = some cf ∧ Lambda.shapeOf? cf index = some σ ∧
    (k.callSites.find? fun y => y.1 == m.idx && y.2.1 == pc) = some (i0, p0, l) ∧ Lambda.isMade { classPath := fun _ => none } U.vm m.cls σ c = true ∧ U.lambdaCallable σ c = true ∧
      ((∃ a, l = .constant a ∧ one = some a ∧ σ.captured = []) ∨ (l = .makes c ∧ one = none ∧ σ.captured ≠ []))
def lsP (w : Cond) (c : ClassId) (one : Option Nat) (U : State) : Prop := match w with
  | .lambdaSite x pc index σ => LSite x pc index σ c one U
  | _ => False
theorem LSite.moved {x : MethodName} {pc index : Nat} {σ : Lambda.Shape} {c : ClassId} {one : Option Nat} {s U : State} (hW : s.WarmedH U.vm) (h : LSite x pc index σ c one s) : LSite x pc index σ c one U := by
  obtain ⟨m, kc, cf, i0, p0, l, hm, hk, hcf, hsh, hfind, hmade, hcall, hl⟩ := h
  have hcall' : U.lambdaCallable σ c = true := by
    have hA := hW.alike
    simp only [State.lambdaCallable, hA.findClass, hA.assignable, hA.superclasses, hA.declaredIn] at hcall ⊢
    exact hcall
  obtain ⟨kc', hk', he⟩ := hW.alike.2.2 _ _ hk
  have hm' : U.methodNamed? x = some m := by
    have := State.methodNamed?_setVm (s := s) hW.alike x
    rw [hm] at this
    exact this
  exact ⟨m, kc', cf, i0, p0, l, hm', hk', by rw [he]; exact hcf, hsh, by rw [he]; exact hfind, Lambda.isMade_warmer hW hmade, hcall', hl⟩
theorem LSite.of {x : MethodName} {pc index : Nat} {σ : Lambda.Shape} {c : ClassId} {one : Option Addr} {s : State} (h : s.lambdaAt? x pc index σ = some (c, one)) : LSite x pc index σ c one s := by
  obtain ⟨m, kc, cf, i0, p0, l, hm, hk, hcf, hsh, -, hfind, hmade, hcall, hl⟩ := State.lambdaAt?_spec h
  refine ⟨m, kc, cf, i0, p0, l, hm, hk, hcf, hsh, hfind, hmade, hcall, ?_⟩
  rcases hl with ⟨a, cell, e1, e2, e3, -⟩ | ⟨e1, e2, e3⟩
  · exact Or.inl ⟨a, e1, e2, e3⟩
  · exact Or.inr ⟨e1, e2, e3⟩
theorem lsP.moved {w : Cond} {c : ClassId} {one : Option Nat} {s U : State} (hW : s.WarmedH U.vm) (h : lsP w c one s) : lsP w c one U := by
  cases w <;> first | exact LSite.moved hW h | exact h
def siteL : List (Nat × Cond) := [(1, siteWord_1_1), (2, siteWord_1_2), (3, siteWord_1_3), (4, siteWord_1_4), (5, siteWord_1_5), (6, siteWord_1_6), (7, siteWord_1_7), (8, siteWord_1_8), (9, siteWord_1_9), (10, siteWord_1_10), (11, siteWord_1_11)]
def siteC : List Nat := [1, 4, 5, 11]
/-- interface calls: the receiver's class, the interface's method, the method -/
def fwL : List (String × MethodName × MethodName) := [(RX19, ⟨"GathersAllFaults$Placed", "path", "()I"⟩, yX19_path), (RX13, ⟨"GathersAllFaults$Placed", "path", "()I"⟩, yX13_path), (RJ14, ⟨"java/util/Set", "iterator", "()Ljava/util/Iterator;"⟩, yJ14_iterator), (RJ19, ⟨"java/util/Iterator", "hasNext", "()Z"⟩, yJ18_hasNext), (RJ19, ⟨"java/util/Iterator", "next", "()Ljava/lang/Object;"⟩, yJ19_next)]
/-- instanceof and catch that say no -/
def ncL : List (String × String) := [(RX5, RX2), (RX11, RX2), (RX12, RX2), (RX2, RX5), (RX11, RX5), (RX12, RX5), (RX2, RX11), (RX5, RX11), (RX12, RX11), (RX2, RX12), (RX5, RX12), (RX11, RX12), (RJ9, "java/util/HashMap$TreeNode"), (RJ10, "java/util/HashMap$TreeNode"), (RX8, RJ21), (RJ8, RX2), (RJ8, RX5), (RJ8, RX11), (RJ8, RX12)]
def xLook : MethodName := ⟨"GathersAllFaults$Look", "at", "(LGathersAllFaults$Value;ILGathersAllFaults$Finding;)V"⟩
def xBoth : MethodName := ⟨"GathersAllFaults$Both", "are", "(LGathersAllFaults$Value;LGathersAllFaults$Value;)Z"⟩
/-- the interfaces' methods that lambdas answer -/
def faP (x : MethodName) (U : State) : Prop := va_Nw (.declares x) U ∧ va_Nw (.interfaceMethod x.cls x.cls x.name x.desc) U
theorem faP.moved {x : MethodName} (hx : x.cls ≠ "java/lang/invoke/MethodHandle" ∧ x.cls ≠ "java/lang/invoke/VarHandle") {s U : State} (hW : s.WarmedH U.vm) (h : faP x s) : faP x U := by
  obtain ⟨h1, h2⟩ := h
  obtain ⟨r, meth, hn, -⟩ := Cond.declares_spec h1
  exact ⟨va_Nw.warmD hW h1, va_tabs rfl (rfl : (s.setVm U.vm).vm = U.vm) (by rw [Cond.interfaceMethod_setVm hW.alike (r := r) hn hx]; exact h2)⟩
/-- a new exception's slots -/
def frK (G : GG) (U : State) : Prop := ∀ ci, ci = 15 ∨ ci = 16 → ∀ k, U.vm.classes[(gD G).1 ci]? = some k → gF G ci = k.instanceTypes.map defaultValue
theorem frK.moved {G : GG} {s U : State} (hA : s.vm.Alike U.vm) (h : frK G s) : frK G U := by
  intro ci hci k hk
  cases h0 : s.vm.classes[(gD G).1 ci]? with
  | none => rw [hA.none h0] at hk; cases hk
  | some k0 =>
    obtain ⟨k1, hk1, he⟩ := hA.2.2 _ _ h0
    cases hk.symm.trans hk1
    have e : k.instanceTypes = k0.instanceTypes := by rw [he]
    rw [e]
    exact h ci hci k0 h0
def KG (G : GG) (U : State) : Prop := va_K (gD G) vwCl (tysL G) U ∧ (∀ w, w ∈ lw_tbl → rwW w = true → va_Nw w U) ∧ (∀ C, Jvm.Cond.arrayOver (.object C) ∈ lw_tbl → va_AO C U) ∧ (∀ q, q ∈ fwL → va_Fw q.1 q.2.1 q.2.2 U) ∧ (∀ q, q ∈ ncL → va_Nc q.1 q.2 U) ∧ (∀ q, q ∈ siteL → lsP q.2 (gLam G q.1) (if q.1 ∈ siteC then some (gLk G q.1) else none) U) ∧ faP xLook U ∧ faP xBoth U ∧ frK G U
theorem rwW.moved {w : Cond} (h : rwW w = true) {s U : State} (hW : s.WarmedH U.vm) (hZ : va_Nw w s) : va_Nw w U := by
  cases w <;> first | exact va_Nw.warmF hW hZ | exact va_Nw.warmM hW hZ | exact va_Nw.warmC hW hZ | exact va_Nw.warmD hW hZ | exact absurd h (by simp [rwW])
theorem fwL_ok : ∀ q, q ∈ fwL → q.2.1.cls ≠ "java/lang/invoke/MethodHandle" ∧ q.2.1.cls ≠ "java/lang/invoke/VarHandle" := by decide +kernel
theorem KG.moved {G : GG} {s U : State} (hW : s.WarmedH U.vm) (h : KG G s) : KG G U :=
  ⟨va_K.moved hW.alike h.1, fun w hw hr => rwW.moved hr hW (h.2.1 w hw hr), fun C hC => va_AO.moved hW.alike (h.2.2.1 C hC), fun q hq => va_Fw.moved (fwL_ok q hq) hW.alike (h.2.2.2.1 q hq), fun q hq => va_Nc.moved hW.alike (h.2.2.2.2.1 q hq), fun q hq => lsP.moved hW (h.2.2.2.2.2.1 q hq), h.2.2.2.2.2.2.1.moved (by decide) hW, h.2.2.2.2.2.2.2.1.moved (by decide) hW, h.2.2.2.2.2.2.2.2.moved hW.alike⟩
theorem WarmedH_same {s U : State} (h : s.vm = U.vm) : s.WarmedH U.vm := by
  rw [← h]
  exact State.WarmedH.refl s
/-- the object of a lambda that captures nothing -/
def lkO (a : Nat) (c : ClassId) (A : Nat → Prop) (H : Heap) : Prop := (∃ cell : Cell, H[a]? = some cell ∧ cell.cls = c ∧ cell.vm = .none) ∧ ¬ A a
def SG (G : GG) (A : Nat → Prop) (U : State) (H : Heap) : Prop := vb_C (gIc G) A U H ∧ va_Z "java/lang/Integer$IntegerCache" "high" "I" (.int 127) A U H ∧ (∃ t, va_Z "java/lang/Integer$IntegerCache" "cache" "[Ljava/lang/Integer;" (.ref t) A U H ∧ va_T (.object "java/lang/Integer") t 256 (fun k => .ref (gIc G k)) A U H) ∧ va_Z "java/util/HashSet" "PRESENT" "Ljava/lang/Object;" (.ref (gPr G)) A U H ∧
  vx_Zq Bundle.tN "UNASSIGNED_STACK" Bundle.steD A U H ∧ vx_Zq Bundle.tN "SUPPRESSED_SENTINEL" Bundle.listD A U H ∧ ∀ i, i ∈ siteC → lkO (gLk G i) (gLam G i) A H
theorem SG.moved {G : GG} {A : Nat → Prop} {s U : State} {H : Heap} (hW : s.vm.Alike U.vm) (h : SG G A s H) : SG G A U H := by
  obtain ⟨h1, h2, ⟨t, h3, h4⟩, h5, h6, h7, h8⟩ := h
  exact ⟨h1.moved hW, h2.moved hW, ⟨t, h3.moved hW, h4.moved hW⟩, h5.moved hW, h6.moved hW, h7.moved hW, h8⟩
theorem SG.kept {G : GG} {A : Nat → Prop} {U : State} {H H1 : Heap} (h : SG G A U H) (hq : ∀ a : Nat, a < H.size → ¬ A a → H1[a]? = H[a]?) : SG G A U H1 := by
  obtain ⟨h1, h2, ⟨t, h3, h4⟩, h5, h6, h7, h8⟩ := h
  refine ⟨h1.kept hq, h2.kept hq, ⟨t, h3.kept hq, h4.kept hq⟩, h5.kept hq, h6.kept hq, h7.kept hq, fun i hi => ?_⟩
  obtain ⟨⟨cell, c1, c2⟩, c3⟩ := h8 i hi
  exact ⟨⟨cell, by rw [hq _ (Array.getElem?_eq_some_iff.mp c1).1 c3]; exact c1, c2⟩, c3⟩
theorem SG.narrow {G : GG} {A B : Nat → Prop} {U : State} {H : Heap} (h : SG G A U H) (hAB : ∀ q, B q → A q) : SG G B U H := by
  obtain ⟨h1, h2, ⟨t, h3, h4⟩, h5, h6, h7, h8⟩ := h
  exact ⟨h1.narrow hAB, h2.narrow hAB, ⟨t, h3.narrow hAB, h4.narrow hAB⟩, h5.narrow hAB, h6.narrow hAB, h7.narrow hAB, fun i hi => ⟨(h8 i hi).1, fun z => (h8 i hi).2 (hAB _ z)⟩⟩
def hrm (G : GG) (d z l : Nat) : Room := { frames := d, cells := gCC G - z, slots := gSS G - l, locals := 64 * d + 10304 }
def HC (X : Ev) (G : GG) (own : String) (cc : ByteArray) (d : Nat) : Prop := GC X own cc ∧ KG G (ev_s X) ∧ SG G (ev_A X) (ev_s X) (ev_s X).heap ∧ ev_R X = hrm G d (ev_s X).heap.size (slS (ev_s X).heap) ∧ (∀ q, (ev_s X).heap.size ≤ q → ev_A X q) ∧ (ev_l X).stackTraces = false
/-! the bookkeeping of new cells can be read off the heap -/
theorem slS_drop {H0 H : Heap} (hz : H0.size ≤ H.size) (hs : ∀ (q : Nat) (c : Cell), H0[q]? = some c → ∃ c', H[q]? = some c' ∧ c'.slots.size = c.slots.size) : slS H = slS H0 + ((H.toList.drop H0.size).map (·.slots.size)).sum := by
  unfold slS
  conv => lhs; rw [← List.take_append_drop H0.size H.toList]
  rw [List.map_append, List.sum_append]
  congr 2
  apply List.ext_getElem?
  intro i
  rw [List.getElem?_map, List.getElem?_map, List.getElem?_take]
  by_cases hi : i < H0.size
  · rw [if_pos hi, Array.getElem?_toList, Array.getElem?_toList]
    obtain ⟨c', h1, h2⟩ := hs i H0[i] (Array.getElem?_eq_getElem hi)
    rw [h1, Array.getElem?_eq_getElem hi]
    simp [h2]
  · rw [if_neg hi, Array.getElem?_toList, Array.getElem?_eq_none (by omega)]
section NRW
variable {p : Program} {l : Launch} {e : Env} {R : Room} {s : State} {m : MethodId} {args : Array Value} {below : List Frame} {meth : Method} {c : Code} {T : State} {H : Heap} {locs : List Loc} {cells slots : Nat} {Q : State → Prop}
theorem stand_slS (Z : Stand p l e R s m args below meth c T locs cells slots) : slS T.heap = slS s.heap + ((T.heap.toList.drop s.heap.size).map (·.slots.size)).sum := by
  refine slS_drop Z.same.2.1 (fun q c h => ?_)
  obtain ⟨c', h1, -, h3, -⟩ := Z.same.2.2.2.2.2 q c h
  exact ⟨c', h1, h3⟩
theorem stand_narrow (Z : Stand p l e R s m args below meth c T locs cells slots) {k n : Nat} (h1 : T.heap.size ≤ s.heap.size + k) (h2 : slS T.heap ≤ slS s.heap + n) : Stand p l e R s m args below meth c T locs k n := by
  have h3 := stand_slS Z
  exact { Z with same := ⟨Z.same.1, Z.same.2.1, h1, Z.same.2.2.2.1, by show ((T.heap.toList.drop s.heap.size).map (·.slots.size)).sum ≤ n; omega, Z.same.2.2.2.2.2⟩ }
theorem W.narrow {k n : Nat} {g : JFrame} (h1 : H.size ≤ s.heap.size + k) (h2 : slS H ≤ slS s.heap + n) (kk : W p l e R s m args below meth c H locs k n Q g) : W p l e R s m args below meth c H locs cells slots Q g :=
  fun T hT Z => kk T hT (stand_narrow Z (by rw [hT]; exact h1) (by rw [hT]; exact h2))
theorem vx_narrow {k n : Nat} {g : JFrame} {q : Addr} (h1 : H.size ≤ s.heap.size + k) (h2 : slS H ≤ slS s.heap + n) (kk : vx_W p l e R s m args below meth c H locs k n Q g q) : vx_W p l e R s m args below meth c H locs cells slots Q g q :=
  fun T hT Z => kk T hT (stand_narrow Z (by rw [hT]; exact h1) (by rw [hT]; exact h2))
end NRW
