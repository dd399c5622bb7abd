/-! CONTRACTS of the component's methods; calls, returns, throws -/
abbrev QT : Type := Option Value → HS → Prop
abbrev ET : Type := Nat → HS → Prop
abbrev CT : Type := Nat → List Value → HS → QT → ET → Prop
def hSub (h h' : HS) : Prop := (∀ q, hD h' q → hD h q) ∧ hZ h ≤ hZ h' ∧ hL h ≤ hL h'
def exN (h : HS) (q : Nat) (E : String) : Prop := (hT h q = 16 ∧ E = RX8) ∨ (hT h q = 17 ∧ E = RX10)
def hPc (G : GG) (args : List Value) (h : HS) : Array Value → State → Prop := va_Pc args (fun U => RH G h U.heap ∧ KG G U ∧ SG G (hD h) U U.heap)
def hQc (G : GG) (h : HS) (Q : QT) : Array Value → State → Outcome → State → Prop := fun _ st oc t => (∃ v h', oc = .returned v ∧ Q v h' ∧ RH G h' t.heap ∧ hSub h h') ∧ va_F (hD h) st t
def hXc (G : GG) (h : HS) (E : ET) : String → Addr → State → State → Prop := fun En q st t => (∃ h', E q h' ∧ exN h' q En ∧ RH G h' t.heap ∧ hSub h h') ∧ va_F (hD h) st t
def HMet (l : Launch) (G : GG) (y : MethodName) (ws : List Cond) (d : Nat) (args : List Value) (h : HS) (Q : QT) (E : ET) : Prop :=
  vx_Met l y ws (hrm G d (hZ h) (hL h)) (hPc G args h) (hQc G h Q) (hXc G h E) (gCC G - hZ h) (gSS G - hL h) (hD h)
/-- what a body owes at its end -/
def hQ (X : Ev) (G : GG) (h0 : HS) (Q : QT) (E : ET) : State → Prop := vx_MQ (ev_b X) (hQc G h0 Q) (hXc G h0 E) (ev_a X) (ev_s X) (gCC G - hZ h0) (gSS G - hL h0) (hD h0)
def HS0 (X : Ev) (h0 : HS) : Prop := ev_A X = hD h0 ∧ (ev_s X).heap.size = hZ h0 ∧ slS (ev_s X).heap = hL h0
/-- the frame with q thrown over it -/
def GX (X : Ev) (G : GG) (h : HS) (Q : State → Prop) (pc : Nat) (lv : List (Nat × Value)) (q : Nat) : Prop :=
  ∀ (H : Heap) (locs : List Loc) (ls : Array Slot) (rest : List Value), RP X G h H → va_S (ev_A X) (ev_s X).heap H locs → lv_has ls (ev_n X) lv → vx_W (ev_p X) (ev_l X) (ev_e X) (ev_R X) (ev_s X) (ev_m X) (ev_a X) (ev_b X) (ev_h X) (ev_c X) H locs (hZ h - (ev_s X).heap.size) (hL h - slS (ev_s X).heap) Q (F0 (ev_m X) pc ls rest) q
def gI (k : Int32 → HS → Prop) : QT := fun v h => ∃ r, v = some (.int r) ∧ k r h
def gL (k : Int64 → HS → Prop) : QT := fun v h => ∃ r, v = some (.long r) ∧ k r h
def gR (k : Option Nat → HS → Prop) : QT := fun v h => ∃ r, v = some (va_rf r) ∧ k r h
def gV (k : HS → Prop) : QT := fun v h => v = none ∧ k h
theorem hPc_blind {G : GG} {args : List Value} {h : HS} : FrameBlind (hPc G args h) := fun a U g mk q => by
  obtain ⟨q0, q1, q2, q3⟩ := q
  exact ⟨q0, q1, KG.moved (s := U) (U := U.calling g mk a) (State.WarmedH.refl U) q2, SG.moved (s := U) (U := U.calling g mk a) (Vm.Alike.refl U.vm) q3⟩
section GLS
variable {X : Ev} {G : GG} {own : String} {cc : ByteArray} {d pc : Nat} {lv : List (Nat × Value)} {st rest stk As : List Value} {h : HS} {Q : State → Prop}
theorem hpreU {args : List Value} {H : Heap} {locs : List Loc} (C : HC X G own cc d) (hP : RP X G h H) (hS : va_S (ev_A X) (ev_s X).heap H locs) : ∀ U : State, U.heap = H → (ev_s X).WarmedH U.vm → hPc G args h args.toArray U := fun U hU hW =>
  ⟨rfl, by rw [hU]; exact hP.1, KG.moved hW C.2.1, by rw [hU]; exact ((C.2.2.1.kept hS.2.1).narrow hP.2.1).moved hW.alike⟩
theorem RP.next {h' : HS} {H H1 : Heap} (hP : RP X G h H) (hr : RH G h' H1) (hs : hSub h h') : RP X G h' H1 :=
  ⟨hr, fun q hq => hP.2.1 q (hs.1 q hq), Nat.le_trans hP.2.2.1 hs.2.1, Nat.le_trans hP.2.2.2 hs.2.2⟩
theorem gh_run {Q1 : QT} {E1 : ET} (args : Array Value) (hr : ∀ (H : Heap) (locs : List Loc) (ls : Array Slot), RP X G h H → va_S (ev_A X) (ev_s X).heap H locs → lv_has ls (ev_n X) lv → vx_Run (ev_p X) (ev_l X) (ev_e X) (ev_R X) (ev_s X) (ev_m X) (ev_a X) (ev_b X) (ev_h X) (ev_c X) H locs (hZ h - (ev_s X).heap.size) (hL h - slS (ev_s X).heap) (gCC G - hZ h) (gSS G - hL h) (F0 (ev_m X) pc ls stk) rest (hQc G h Q1 args) (hXc G h E1) (hD h))
    (kk : ∀ v h', Q1 v h' → GH X G h' Q (pc + 3) lv (v.toList ++ rest)) (kx : ∀ q h', E1 q h' → (hT h' q = 16 ∨ hT h' q = 17) → GX X G h' Q pc lv q) : GH X G h Q pc lv stk := by
  intro H locs ls hP hS hl T hT Z
  rcases hr H locs ls hP hS hl T hT Z with ⟨v, st₀, t, T', L, h0, Z', hL, e1, e2, ⟨⟨v', h', hv, hq, hrh, hsub⟩, hF⟩, sx⟩ | ⟨q, st₀, t, T', L, E, ce, h0, Z', hL, e1, e2, ⟨⟨h', hq, hex, hrh, hsub⟩, hF⟩, hce, hcv, hcl, sx⟩
  · cases hv
    obtain ⟨-, -, k3⟩ := vx_keep h0 e1 hS (fun q _ z => hP.2.1 q z) hP.2.1 hL hF
    have hP' : RP X G h' T'.heap := by rw [e1]; exact hP.next hrh hsub
    obtain ⟨t2, a1, b1⟩ := W.narrow (by rw [hP'.1.1.1]; have := hP'.2.2.1; omega) (by rw [hP'.1.1.2.1]; have := hP'.2.2.2; omega) (kk v h' hq T'.heap (locs ++ L) ls hP' k3 hl) T' rfl Z'
    exact ⟨t2, sx t2 a1, b1⟩
  · obtain ⟨-, -, k3⟩ := vx_keep h0 e1 hS (fun q _ z => hP.2.1 q z) hP.2.1 hL hF
    have hP' : RP X G h' T'.heap := by rw [e1]; exact hP.next hrh hsub
    obtain ⟨t2, a1, b1⟩ := vx_narrow (by rw [hP'.1.1.1]; have := hP'.2.2.1; omega) (by rw [hP'.1.1.2.1]; have := hP'.2.2.2; omega) (kx q h' hq (hex.imp And.left And.left) T'.heap (locs ++ L) ls rest hP' k3 hl) T' rfl Z'
    exact ⟨t2, sx.trans a1, b1⟩
/-- interface calls go on two bytes later -/
theorem gh_run5 {Q1 : QT} {E1 : ET} (args : Array Value) (hr : ∀ (H : Heap) (locs : List Loc) (ls : Array Slot), RP X G h H → va_S (ev_A X) (ev_s X).heap H locs → lv_has ls (ev_n X) lv → vx_Run5 (ev_p X) (ev_l X) (ev_e X) (ev_R X) (ev_s X) (ev_m X) (ev_a X) (ev_b X) (ev_h X) (ev_c X) H locs (hZ h - (ev_s X).heap.size) (hL h - slS (ev_s X).heap) (gCC G - hZ h) (gSS G - hL h) (F0 (ev_m X) pc ls stk) rest (hQc G h Q1 args) (hXc G h E1) (hD h))
    (kk : ∀ v h', Q1 v h' → GH X G h' Q (pc + 5) lv (v.toList ++ rest)) (kx : ∀ q h', E1 q h' → (hT h' q = 16 ∨ hT h' q = 17) → GX X G h' Q pc lv q) : GH X G h Q pc lv stk := by
  intro H locs ls hP hS hl T hT Z
  rcases hr H locs ls hP hS hl T hT Z with ⟨v, st₀, t, T', L, h0, Z', hL, e1, e2, ⟨⟨v', h', hv, hq, hrh, hsub⟩, hF⟩, sx⟩ | ⟨q, st₀, t, T', L, E, ce, h0, Z', hL, e1, e2, ⟨⟨h', hq, hex, hrh, hsub⟩, hF⟩, hce, hcv, hcl, sx⟩
  · cases hv
    obtain ⟨-, -, k3⟩ := vx_keep h0 e1 hS (fun q _ z => hP.2.1 q z) hP.2.1 hL hF
    have hP' : RP X G h' T'.heap := by rw [e1]; exact hP.next hrh hsub
    obtain ⟨t2, a1, b1⟩ := W.narrow (by rw [hP'.1.1.1]; have := hP'.2.2.1; omega) (by rw [hP'.1.1.2.1]; have := hP'.2.2.2; omega) (kk v h' hq T'.heap (locs ++ L) ls hP' k3 hl) T' rfl Z'
    exact ⟨t2, sx t2 a1, b1⟩
  · obtain ⟨-, -, k3⟩ := vx_keep h0 e1 hS (fun q _ z => hP.2.1 q z) hP.2.1 hL hF
    have hP' : RP X G h' T'.heap := by rw [e1]; exact hP.next hrh hsub
    obtain ⟨t2, a1, b1⟩ := vx_narrow (by rw [hP'.1.1.1]; have := hP'.2.2.1; omega) (by rw [hP'.1.1.2.1]; have := hP'.2.2.2; omega) (kx q h' hq (hex.imp And.left And.left) T'.heap (locs ++ L) ls rest hP' k3 hl) T' rfl Z'
    exact ⟨t2, sx.trans a1, b1⟩
/-- the room that a call hands on -/
theorem hroom {d2 maxL : Nat} (C : HC X G own cc d) (hd : d2 + 1 ≤ d ∧ maxL ≤ 45) : (hrm G d2 (hZ h) (hL h)).frames + 1 ≤ (ev_R X).frames ∧ 8 + (maxL + 11) + (hrm G d2 (hZ h) (hL h)).locals ≤ (ev_R X).locals := by
  rw [C.2.2.2.1]
  dsimp only [hrm]
  omega
theorem hroom2 {H : Heap} (C : HC X G own cc d) (hP : RP X G h H) : hZ h - (ev_s X).heap.size + (gCC G - hZ h) ≤ (ev_R X).cells ∧ hL h - slS (ev_s X).heap + (gSS G - hL h) ≤ (ev_R X).slots := by
  rw [C.2.2.2.1]
  have h1 := hP.1.1.2.2.1
  have h2 := hP.1.1.2.2.2
  have h3 := hP.2.2.1
  have h4 := hP.2.2.2
  dsimp only [hrm]
  omega
/-- the receiver, an object of a class by its tag -/
theorem hrecv {H : Heap} {b ci N : Nat} {K : String} {T : u_T} (C : HC X G own cc d) (hP : RP X G h H) (ht : hT h b = ci + 1) (hci : ci < 26) (hc : vwCl[ci]? = some (K, T, N)) : ∃ cell : Cell, H[b]? = some cell ∧ cell.vm.isStatics = false ∧ (ev_s X).vm.findClass K = some cell.cls := by
  have c0 := hP.1.2.2.1 b (hE_obj ht hci)
  rw [hcell_obj ht hci] at c0
  exact va_recv C.2.1.1 (one_P (h := h) c0) (q0 := 0) hc rfl
/-- an Integer of the cache -/
theorem hrecvI {H : Heap} {b : Nat} {locs : List Loc} (C : HC X G own cc d) (hP : RP X G h H) (hS : va_S (ev_A X) (ev_s X).heap H locs) (ht : hT h b = 300) : ∃ cell : Cell, H[b]? = some cell ∧ cell.vm.isStatics = false ∧ (ev_s X).vm.findClass "java/lang/Integer" = some cell.cls := by
  obtain ⟨k, hk, rfl, -⟩ := hP.1.2.2.2.2.1 b ht
  obtain ⟨cell, c1, c2, c3, -⟩ := (C.2.2.1.1.kept hS.2.1).1 k hk
  exact ⟨cell, c1, c2, c3⟩
/-- what stands at b: an object of the class K -/
def hIs (h : HS) (b : Nat) (K : String) : Prop := (∃ (ci : Nat) (T : u_T) (N : Nat), hT h b = ci + 1 ∧ ci < 26 ∧ vwCl[ci]? = some (K, T, N)) ∨ (hT h b = 300 ∧ K = "java/lang/Integer")
theorem hIs.of {b ci N : Nat} {K : String} {T : u_T} (ht : hT h b = ci + 1) (hci : ci < 26) (hc : vwCl[ci]? = some (K, T, N)) : hIs h b K := Or.inl ⟨ci, T, N, ht, hci, hc⟩
theorem hIs.int {b : Nat} (ht : hT h b = 300) : hIs h b "java/lang/Integer" := Or.inr ⟨ht, rfl⟩
theorem hIs.recv {H : Heap} {b : Nat} {K : String} {locs : List Loc} (hi : hIs h b K) (C : HC X G own cc d) (hP : RP X G h H) (hS : va_S (ev_A X) (ev_s X).heap H locs) : ∃ cell : Cell, H[b]? = some cell ∧ cell.vm.isStatics = false ∧ (ev_s X).vm.findClass K = some cell.cls := by
  rcases hi with ⟨ci, T, N, ht, hci, hc⟩ | ⟨ht, rfl⟩
  · exact hrecv C hP ht hci hc
  · exact hrecvI C hP hS ht
variable {y : MethodName} {bytes : ByteArray} {maxL index n d2 b : Nat} {ret : Option FieldType} {Q1 : QT} {E1 : ET} {K : String}
theorem gh_callV (C : HC X G own cc d) (hi : hIs h b K) (hM : HMet (ev_l X) G y (ws_ y bytes maxL ret) d2 (.ref b :: As) h Q1 E1)
    (h1 : Jvm.Cond.methodLink own index y ∈ lw_all) (h2 : Jvm.Cond.instanceMethod y ∈ lw_all) (h3 : Jvm.Cond.selects K y y ∈ lw_all) (h4 : Jvm.Cond.initialized K ∈ lw_all) (h5 : Jvm.Cond.code y bytes maxL ret ∈ lw_all)
    (hy : y.cls = K ∧ y.cls ≠ "java/lang/invoke/MethodHandle" ∧ y.cls ≠ "java/lang/invoke/VarHandle" ∧ (parseMethodDescriptor y.desc).map (fun d => d.parameters.length) = some n) (hd : d2 + 1 ≤ d ∧ maxL ≤ 45) (hn : As.length = n) (hstk : stk = As.reverse ++ .ref b :: rest) (hc : (rest.map fun v => v.category).sum ≤ 8) (hdg : decode cc pc = .ok (.invokevirtual index, 3))
    (kk : ∀ v h', Q1 v h' → GH X G h' Q (pc + 3) lv (v.toList ++ rest)) (kx : ∀ q h', E1 q h' → (hT h' q = 16 ∨ hT h' q = 17) → GX X G h' Q pc lv q) : GH X G h Q pc lv stk :=
  gh_run (Value.ref b :: As).toArray (fun _ _ _ hP hS hl => vx_runV (n := n) (C := K) (b := b) (As := As) ⟨C.1.1, C.1.2.1, C.1.2.2.1, C.1.2.2.2.1, C.1.2.2.2.2.1⟩ hM (cwV n C.1.2.2.2.2.1 (lw_V h1 h2 h3 h4 h5) rfl rfl rfl hy (hroom C hd)) ⟨hPc_blind, hi.recv C hP hS, hpreU C hP hS⟩ rfl hn hl.1 hstk (lv_room hc) hdg (hroom2 C hP)) kk kx
theorem gh_callVW {hh : List (Nat × Nat × Nat × Nat)} (C : HC X G own cc d) (hi : hIs h b K) (hM : HMet (ev_l X) G y (wsW_ y bytes maxL ret hh) d2 (.ref b :: As) h Q1 E1)
    (h1 : Jvm.Cond.methodLink own index y ∈ lw_all) (h2 : Jvm.Cond.instanceMethod y ∈ lw_all) (h3 : Jvm.Cond.selects K y y ∈ lw_all) (h4 : Jvm.Cond.initialized K ∈ lw_all) (h5 : Jvm.Cond.codeWith y bytes maxL ret hh ∈ lw_all)
    (hy : y.cls = K ∧ y.cls ≠ "java/lang/invoke/MethodHandle" ∧ y.cls ≠ "java/lang/invoke/VarHandle" ∧ (parseMethodDescriptor y.desc).map (fun d => d.parameters.length) = some n) (hd : d2 + 1 ≤ d ∧ maxL ≤ 45) (hn : As.length = n) (hstk : stk = As.reverse ++ .ref b :: rest) (hc : (rest.map fun v => v.category).sum ≤ 8) (hdg : decode cc pc = .ok (.invokevirtual index, 3))
    (kk : ∀ v h', Q1 v h' → GH X G h' Q (pc + 3) lv (v.toList ++ rest)) (kx : ∀ q h', E1 q h' → (hT h' q = 16 ∨ hT h' q = 17) → GX X G h' Q pc lv q) : GH X G h Q pc lv stk :=
  gh_run (Value.ref b :: As).toArray (fun _ _ _ hP hS hl => vx_runVX (n := n) (C := K) (b := b) (As := As) ⟨C.1.1, C.1.2.1, C.1.2.2.1, C.1.2.2.2.1, C.1.2.2.2.2.1⟩ hM (vx_cwVW n C.1.2.2.2.2.1 (lw_VW h1 h2 h3 h4 h5) rfl rfl rfl hy (hroom C hd)) ⟨hPc_blind, hi.recv C hP hS, hpreU C hP hS⟩ rfl hn hl.1 hstk (lv_room hc) hdg (hroom2 C hP)) kk kx
theorem gh_callS (C : HC X G own cc d) (hM : HMet (ev_l X) G y (ws_ y bytes maxL ret) d2 As h Q1 E1)
    (h1 : Jvm.Cond.methodLink own index y ∈ lw_all) (h2 : Jvm.Cond.static y ∈ lw_all) (h4 : Jvm.Cond.initialized y.cls ∈ lw_all) (h5 : Jvm.Cond.code y bytes maxL ret ∈ lw_all)
    (hy : y.cls ≠ "java/lang/invoke/MethodHandle" ∧ y.cls ≠ "java/lang/invoke/VarHandle" ∧ (parseMethodDescriptor y.desc).map (fun d => d.parameters.length) = some n) (hd : d2 + 1 ≤ d ∧ maxL ≤ 45) (hn : As.length = n) (hstk : stk = As.reverse ++ rest) (hc : (rest.map fun v => v.category).sum ≤ 8) (hdg : decode cc pc = .ok (.invokestatic index, 3))
    (kk : ∀ v h', Q1 v h' → GH X G h' Q (pc + 3) lv (v.toList ++ rest)) (kx : ∀ q h', E1 q h' → (hT h' q = 16 ∨ hT h' q = 17) → GX X G h' Q pc lv q) : GH X G h Q pc lv stk :=
  gh_run As.toArray (fun _ _ _ hP hS hl => vx_runS (n := n) (As := As) ⟨C.1.1, C.1.2.1, C.1.2.2.1, C.1.2.2.2.1, C.1.2.2.2.2.1⟩ hM (va_cwS n C.1.2.2.2.2.1 (lw_S h1 h2 h4 h5) rfl rfl rfl hy (hroom C hd)) ⟨hPc_blind, hpreU C hP hS⟩ rfl hn hl.1 hstk (lv_room hc) hdg (hroom2 C hP)) kk kx
theorem gh_callSN {host : String} (C : HC X G own cc d) (hM : HMet (ev_l X) G y (ws_ y bytes maxL ret) d2 As h Q1 E1)
    (h1 : Jvm.Cond.methodLinkNest own index y host ∈ lw_tbl) (h2 : Jvm.Cond.static y ∈ lw_all) (h4 : Jvm.Cond.initialized y.cls ∈ lw_all) (h5 : Jvm.Cond.code y bytes maxL ret ∈ lw_all)
    (hy : y.cls ≠ "java/lang/invoke/MethodHandle" ∧ y.cls ≠ "java/lang/invoke/VarHandle" ∧ (parseMethodDescriptor y.desc).map (fun d => d.parameters.length) = some n) (hd : d2 + 1 ≤ d ∧ maxL ≤ 45) (hn : As.length = n) (hstk : stk = As.reverse ++ rest) (hc : (rest.map fun v => v.category).sum ≤ 8) (hdg : decode cc pc = .ok (.invokestatic index, 3))
    (kk : ∀ v h', Q1 v h' → GH X G h' Q (pc + 3) lv (v.toList ++ rest)) (kx : ∀ q h', E1 q h' → (hT h' q = 16 ∨ hT h' q = 17) → GX X G h' Q pc lv q) : GH X G h Q pc lv stk :=
  gh_run As.toArray (fun _ _ _ hP hS hl => vx_runSN (n := n) (As := As) ⟨C.1.1, C.1.2.1, C.1.2.2.1, C.1.2.2.2.1, C.1.2.2.2.2.1⟩ hM ⟨va_cnB n C.1.2.2.2.2.1 (lw_meth h5) rfl rfl rfl (C.2.1.2.1 _ h1 rfl) (C.1.2.2.2.2.1 _ h4) hy (hroom C hd), C.1.2.2.2.2.1 _ h2, trivial⟩ ⟨hPc_blind, hpreU C hP hS⟩ rfl hn hl.1 hstk (lv_room hc) hdg (hroom2 C hP)) kk kx
theorem gh_callVN {host : String} (C : HC X G own cc d) (hi : hIs h b K) (hM : HMet (ev_l X) G y (ws_ y bytes maxL ret) d2 (.ref b :: As) h Q1 E1)
    (h1 : Jvm.Cond.methodLinkNest own index y host ∈ lw_tbl) (h2 : Jvm.Cond.instanceMethod y ∈ lw_all) (h3 : Jvm.Cond.selects K y y ∈ lw_all) (h4 : Jvm.Cond.initialized y.cls ∈ lw_all) (h5 : Jvm.Cond.code y bytes maxL ret ∈ lw_all)
    (hy : y.cls ≠ "java/lang/invoke/MethodHandle" ∧ y.cls ≠ "java/lang/invoke/VarHandle" ∧ (parseMethodDescriptor y.desc).map (fun d => d.parameters.length) = some n) (hd : d2 + 1 ≤ d ∧ maxL ≤ 45) (hn : As.length = n) (hstk : stk = As.reverse ++ .ref b :: rest) (hc : (rest.map fun v => v.category).sum ≤ 8) (hdg : decode cc pc = .ok (.invokevirtual index, 3))
    (kk : ∀ v h', Q1 v h' → GH X G h' Q (pc + 3) lv (v.toList ++ rest)) (kx : ∀ q h', E1 q h' → (hT h' q = 16 ∨ hT h' q = 17) → GX X G h' Q pc lv q) : GH X G h Q pc lv stk :=
  gh_run (Value.ref b :: As).toArray (fun _ _ _ hP hS hl => vx_runVN (n := n) (C := K) (b := b) (As := As) ⟨C.1.1, C.1.2.1, C.1.2.2.1, C.1.2.2.2.1, C.1.2.2.2.2.1⟩ hM ⟨va_cnB n C.1.2.2.2.2.1 (lw_meth h5) rfl rfl rfl (C.2.1.2.1 _ h1 rfl) (C.1.2.2.2.2.1 _ h4) hy (hroom C hd), C.1.2.2.2.2.1 _ h2, C.1.2.2.2.2.1 _ h3⟩ ⟨hPc_blind, hi.recv C hP hS, hpreU C hP hS⟩ rfl hn hl.1 hstk (lv_room hc) hdg (hroom2 C hP)) kk kx
theorem gh_callI (C : HC X G own cc d) (hM : HMet (ev_l X) G y (ws_ y bytes maxL none) d2 (.ref b :: As) h Q1 E1)
    (h1 : Jvm.Cond.methodLink own index y ∈ lw_all) (h2 : Jvm.Cond.instanceMethod y ∈ lw_all) (h4 : Jvm.Cond.initialized y.cls ∈ lw_all) (h5 : Jvm.Cond.code y bytes maxL none ∈ lw_all)
    (hy1 : y.name = "<init>") (hy : y.cls ≠ "java/lang/invoke/MethodHandle" ∧ y.cls ≠ "java/lang/invoke/VarHandle" ∧ (parseMethodDescriptor y.desc).map (fun d => d.parameters.length) = some n) (hd : d2 + 1 ≤ d ∧ maxL ≤ 45) (hn : As.length = n) (hstk : stk = As.reverse ++ .ref b :: rest) (hc : (rest.map fun v => v.category).sum ≤ 8) (hdg : decode cc pc = .ok (.invokespecial index, 3))
    (kk : ∀ v h', Q1 v h' → GH X G h' Q (pc + 3) lv (v.toList ++ rest)) (kx : ∀ q h', E1 q h' → (hT h' q = 16 ∨ hT h' q = 17) → GX X G h' Q pc lv q) : GH X G h Q pc lv stk :=
  gh_run (Value.ref b :: As).toArray (fun _ _ _ hP hS hl => vx_runI (n := n) (b := b) (As := As) ⟨C.1.1, C.1.2.1, C.1.2.2.1, C.1.2.2.2.1, C.1.2.2.2.2.1⟩ hM (cwI n C.1.2.2.2.2.1 (lw_meth h5) rfl rfl rfl (C.1.2.2.2.2.1 _ h4) (C.1.2.2.2.2.1 _ h1) (C.1.2.2.2.2.1 _ h2) hy1 hy (hroom C hd)) ⟨hPc_blind, hpreU C hP hS⟩ rfl hn hl.1 hstk (lv_room hc) hdg (hroom2 C hP)) kk kx
theorem gh_callIN {host : String} (C : HC X G own cc d) (hM : HMet (ev_l X) G y (ws_ y bytes maxL none) d2 (.ref b :: As) h Q1 E1)
    (h1 : Jvm.Cond.methodLinkNest own index y host ∈ lw_tbl) (h2 : Jvm.Cond.instanceMethod y ∈ lw_all) (h4 : Jvm.Cond.initialized y.cls ∈ lw_all) (h5 : Jvm.Cond.code y bytes maxL none ∈ lw_all)
    (hy1 : y.name = "<init>") (hy : y.cls ≠ "java/lang/invoke/MethodHandle" ∧ y.cls ≠ "java/lang/invoke/VarHandle" ∧ (parseMethodDescriptor y.desc).map (fun d => d.parameters.length) = some n) (hd : d2 + 1 ≤ d ∧ maxL ≤ 45) (hn : As.length = n) (hstk : stk = As.reverse ++ .ref b :: rest) (hc : (rest.map fun v => v.category).sum ≤ 8) (hdg : decode cc pc = .ok (.invokespecial index, 3))
    (kk : ∀ v h', Q1 v h' → GH X G h' Q (pc + 3) lv (v.toList ++ rest)) (kx : ∀ q h', E1 q h' → (hT h' q = 16 ∨ hT h' q = 17) → GX X G h' Q pc lv q) : GH X G h Q pc lv stk :=
  gh_run (Value.ref b :: As).toArray (fun _ _ _ hP hS hl => vx_runIN (n := n) (b := b) (As := As) ⟨C.1.1, C.1.2.1, C.1.2.2.1, C.1.2.2.2.1, C.1.2.2.2.2.1⟩ hM ⟨va_cnB n C.1.2.2.2.2.1 (lw_meth h5) rfl rfl rfl (C.2.1.2.1 _ h1 rfl) (C.1.2.2.2.2.1 _ h4) hy (hroom C hd), hy1, C.1.2.2.2.2.1 _ h2⟩ ⟨hPc_blind, hpreU C hP hS⟩ rfl hn hl.1 hstk (lv_room hc) hdg (hroom2 C hP)) kk kx
theorem lw_U {x : MethodName} {owner : String} (h1 : Jvm.Cond.methodLink own index x ∈ lw_all) (h2 : Jvm.Cond.sameMethod x.cls owner x.name x.desc ∈ lw_all) (h3 : Jvm.Cond.selects K x y ∈ lw_all) (h4 : Jvm.Cond.instanceMethod y ∈ lw_all) (h6 : Jvm.Cond.initialized y.cls ∈ lw_all) (h5 : Jvm.Cond.code y bytes maxL ret ∈ lw_all) : GoodIn lw_all (va_wsU own index K owner x y (ws_ y bytes maxL ret)) := by
  refine lw_app ?_ (lw_meth h5)
  intro w hw
  simp only [List.mem_cons, List.not_mem_nil, or_false] at hw
  rcases hw with e | e | e | e | e <;> rw [e] <;> assumption
/-- an inherited method -/
theorem gh_callU {x : MethodName} {owner : String} (C : HC X G own cc d) (hi : hIs h b K) (hM : HMet (ev_l X) G y (ws_ y bytes maxL ret) d2 (.ref b :: As) h Q1 E1)
    (h1 : Jvm.Cond.methodLink own index x ∈ lw_all) (h2 : Jvm.Cond.sameMethod x.cls owner x.name x.desc ∈ lw_all) (h3 : Jvm.Cond.selects K x y ∈ lw_all) (h4 : Jvm.Cond.instanceMethod y ∈ lw_all) (h6 : Jvm.Cond.initialized y.cls ∈ lw_all) (h5 : Jvm.Cond.code y bytes maxL ret ∈ lw_all)
    (hyx : y = ⟨owner, x.name, x.desc⟩) (hy : owner ≠ "java/lang/invoke/MethodHandle" ∧ owner ≠ "java/lang/invoke/VarHandle" ∧ (parseMethodDescriptor x.desc).map (fun d => d.parameters.length) = some n) (hd : d2 + 1 ≤ d ∧ maxL ≤ 45) (hn : As.length = n) (hstk : stk = As.reverse ++ .ref b :: rest) (hc : (rest.map fun v => v.category).sum ≤ 8) (hdg : decode cc pc = .ok (.invokevirtual index, 3))
    (kk : ∀ v h', Q1 v h' → GH X G h' Q (pc + 3) lv (v.toList ++ rest)) (kx : ∀ q h', E1 q h' → (hT h' q = 16 ∨ hT h' q = 17) → GX X G h' Q pc lv q) : GH X G h Q pc lv stk :=
  gh_run (Value.ref b :: As).toArray (fun _ _ _ hP hS hl => vx_runU (n := n) (C := K) (b := b) (As := As) ⟨C.1.1, C.1.2.1, C.1.2.2.1, C.1.2.2.2.1, C.1.2.2.2.2.1⟩ hM (va_cwU n C.1.2.2.2.2.1 (lw_U h1 h2 h3 h4 h6 h5) rfl rfl rfl hyx hy (hroom C hd)) ⟨hPc_blind, hi.recv C hP hS, hpreU C hP hS⟩ rfl hn hl.1 hstk (lv_room hc) hdg (hroom2 C hP)) kk kx
/-- a method that the named one is declared above, abstract or native there -/
theorem gh_callA {x : MethodName} {owner : String} (C : HC X G own cc d) (hi : hIs h b K) (hM : HMet (ev_l X) G y (ws_ y bytes maxL ret) d2 (.ref b :: As) h Q1 E1)
    (h1 : Jvm.Cond.methodLink own index x ∈ lw_all) (h2 : Jvm.Cond.sameMethod x.cls owner x.name x.desc ∈ lw_all) (h3 : Jvm.Cond.selects K x y ∈ lw_all) (h4 : Jvm.Cond.instanceMethod y ∈ lw_all) (h6 : Jvm.Cond.initialized y.cls ∈ lw_all) (h5 : Jvm.Cond.code y bytes maxL ret ∈ lw_all)
    (hz : Jvm.Cond.declares ⟨owner, x.name, x.desc⟩ ∈ lw_tbl) (hy : owner ≠ "java/lang/invoke/MethodHandle" ∧ owner ≠ "java/lang/invoke/VarHandle" ∧ (parseMethodDescriptor x.desc).map (fun d => d.parameters.length) = some n) (hd : d2 + 1 ≤ d ∧ maxL ≤ 45) (hn : As.length = n) (hstk : stk = As.reverse ++ .ref b :: rest) (hc : (rest.map fun v => v.category).sum ≤ 8) (hdg : decode cc pc = .ok (.invokevirtual index, 3))
    (kk : ∀ v h', Q1 v h' → GH X G h' Q (pc + 3) lv (v.toList ++ rest)) (kx : ∀ q h', E1 q h' → (hT h' q = 16 ∨ hT h' q = 17) → GX X G h' Q pc lv q) : GH X G h Q pc lv stk :=
  gh_run (Value.ref b :: As).toArray (fun _ _ _ hP hS hl => vx_runU (n := n) (C := K) (b := b) (As := As) ⟨C.1.1, C.1.2.1, C.1.2.2.1, C.1.2.2.2.1, C.1.2.2.2.2.1⟩ hM (va_cwA n C.1.2.2.2.2.1 (lw_U h1 h2 h3 h4 h6 h5) rfl rfl rfl (C.2.1.2.1 _ hz rfl) hy (hroom C hd)) ⟨hPc_blind, hi.recv C hP hS, hpreU C hP hS⟩ rfl hn hl.1 hstk (lv_room hc) hdg (hroom2 C hP)) kk kx
theorem lw_O {x : MethodName} {owner : String} (h1 : Jvm.Cond.methodLink own index x ∈ lw_all) (h2 : Jvm.Cond.sameMethod x.cls owner x.name x.desc ∈ lw_all) (h7 : Jvm.Cond.instanceMethod ⟨owner, x.name, x.desc⟩ ∈ lw_all) (h3 : Jvm.Cond.selects K x y ∈ lw_all) (h4 : Jvm.Cond.instanceMethod y ∈ lw_all) (h6 : Jvm.Cond.initialized y.cls ∈ lw_all) (h5 : Jvm.Cond.code y bytes maxL ret ∈ lw_all) : GoodIn lw_all (va_wsO own index K owner x y (ws_ y bytes maxL ret)) := by
  refine lw_app ?_ (lw_meth h5)
  intro w hw
  simp only [List.mem_cons, List.not_mem_nil, or_false] at hw
  rcases hw with e | e | e | e | e | e <;> rw [e] <;> assumption
/-- a method that overrides one with code -/
theorem gh_callO {x : MethodName} {owner : String} {b0 : ByteArray} {m0 : Nat} {r0 : Option FieldType} (C : HC X G own cc d) (hi : hIs h b K) (hM : HMet (ev_l X) G y (ws_ y bytes maxL ret) d2 (.ref b :: As) h Q1 E1)
    (h1 : Jvm.Cond.methodLink own index x ∈ lw_all) (h2 : Jvm.Cond.sameMethod x.cls owner x.name x.desc ∈ lw_all) (h7 : Jvm.Cond.instanceMethod ⟨owner, x.name, x.desc⟩ ∈ lw_all) (h3 : Jvm.Cond.selects K x y ∈ lw_all) (h4 : Jvm.Cond.instanceMethod y ∈ lw_all) (h6 : Jvm.Cond.initialized y.cls ∈ lw_all) (h5 : Jvm.Cond.code y bytes maxL ret ∈ lw_all)
    (h0 : Jvm.Cond.code ⟨owner, x.name, x.desc⟩ b0 m0 r0 ∈ lw_all) (hy : owner ≠ "java/lang/invoke/MethodHandle" ∧ owner ≠ "java/lang/invoke/VarHandle" ∧ (parseMethodDescriptor x.desc).map (fun d => d.parameters.length) = some n) (hd : d2 + 1 ≤ d ∧ maxL ≤ 45) (hn : As.length = n) (hstk : stk = As.reverse ++ .ref b :: rest) (hc : (rest.map fun v => v.category).sum ≤ 8) (hdg : decode cc pc = .ok (.invokevirtual index, 3))
    (kk : ∀ v h', Q1 v h' → GH X G h' Q (pc + 3) lv (v.toList ++ rest)) (kx : ∀ q h', E1 q h' → (hT h' q = 16 ∨ hT h' q = 17) → GX X G h' Q pc lv q) : GH X G h Q pc lv stk :=
  gh_run (Value.ref b :: As).toArray (fun _ _ _ hP hS hl => vx_runU (n := n) (C := K) (b := b) (As := As) ⟨C.1.1, C.1.2.1, C.1.2.2.1, C.1.2.2.2.1, C.1.2.2.2.2.1⟩ hM (va_cwO n C.1.2.2.2.2.1 (lw_O h1 h2 h7 h3 h4 h6 h5) rfl rfl rfl h0 hy (hroom C hd)) ⟨hPc_blind, hi.recv C hP hS, hpreU C hP hS⟩ rfl hn hl.1 hstk (lv_room hc) hdg (hroom2 C hP)) kk kx
/-- an interface's method -/
theorem lw_F {x : MethodName} (h1 : Jvm.Cond.methodLink own index x ∈ lw_all) (h3 : Jvm.Cond.selects K x y ∈ lw_all) (h4 : Jvm.Cond.instanceMethod y ∈ lw_all) (h6 : Jvm.Cond.initialized y.cls ∈ lw_all) (h5 : Jvm.Cond.code y bytes maxL ret ∈ lw_all) : GoodIn lw_all (va_wsF own index K x y (ws_ y bytes maxL ret)) := by
  refine lw_app ?_ (lw_meth h5)
  intro w hw
  simp only [List.mem_cons, List.not_mem_nil, or_false] at hw
  rcases hw with e | e | e | e <;> rw [e] <;> assumption
theorem gh_callF {x : MethodName} {count ci N : Nat} {T : u_T} (C : HC X G own cc d) (hi : hT h b = ci + 1) (hci : ci < 26) (hcl : vwCl[ci]? = some (K, T, N)) (hM : HMet (ev_l X) G y (ws_ y bytes maxL ret) d2 (.ref b :: As) h Q1 E1)
    (h1 : Jvm.Cond.methodLink own index x ∈ lw_all) (h3 : Jvm.Cond.selects K x y ∈ lw_all) (h4 : Jvm.Cond.instanceMethod y ∈ lw_all) (h6 : Jvm.Cond.initialized y.cls ∈ lw_all) (h5 : Jvm.Cond.code y bytes maxL ret ∈ lw_all) (hF : (K, x, y) ∈ fwL)
    (hy : x.cls ≠ "java/lang/invoke/MethodHandle" ∧ x.cls ≠ "java/lang/invoke/VarHandle" ∧ (parseMethodDescriptor x.desc).map (fun d => d.parameters.length) = some n) (hd : d2 + 1 ≤ d ∧ maxL ≤ 45) (hn : As.length = n) (hstk : stk = As.reverse ++ .ref b :: rest) (hc : (rest.map fun v => v.category).sum ≤ 8) (hdg : decode cc pc = .ok (.invokeinterface index count, 5))
    (kk : ∀ v h', Q1 v h' → GH X G h' Q (pc + 5) lv (v.toList ++ rest)) (kx : ∀ q h', E1 q h' → (hT h' q = 16 ∨ hT h' q = 17) → GX X G h' Q pc lv q) : GH X G h Q pc lv stk :=
  gh_run5 (Value.ref b :: As).toArray (fun _ _ _ hP hS hl => vx_runF (n := n) (C := K) (b := b) (As := As) (C.2.1.1.1 ci _ hcl).2 ⟨C.1.1, C.1.2.1, C.1.2.2.1, C.1.2.2.2.1, C.1.2.2.2.2.1⟩ hM (va_cwF n C.1.2.2.2.2.1 (lw_F h1 h3 h4 h6 h5) rfl rfl rfl (C.2.1.2.2.2.1 _ hF) hy (hroom C hd)) ⟨hPc_blind, hrecv C hP hi hci hcl, hpreU C hP hS⟩ rfl hn hl.1 hstk (lv_room hc) hdg (hroom2 C hP)) kk kx
end GLS
