/-! THE LAW's FRAME: the component's heap h and the twin's fields u in one heap; calls of either -/
def tDis (T : TG) (h : HS) : Prop := ∀ q, tA T q → ¬ hD h q
def LPr (X : Ev) (G : GG) (T : TG) (h : HS) (u : TS) (H : Heap) : Prop := RP X G h H ∧ TP T u H ∧ tDis T h
def LH (X : Ev) (G : GG) (T : TG) (h : HS) (u : TS) (Q : State → Prop) (pc : Nat) (lv : List (Nat × Value)) (st : List Value) : Prop := GK X (LPr X G T h u) (hZ h - (ev_s X).heap.size) (hL h - slS (ev_s X).heap) Q pc lv st
theorem TP.kept {T : TG} {u : TS} {H H1 : Heap} (h : TP T u H) (hk : ∀ q, tA T q → H1[q]? = H[q]?) : TP T u H1 := by
  refine va_P.kept h fun k x hx => hk _ ?_
  cases k with
  | zero => simp [twl] at hx; exact Or.inl (by rw [← hx])
  | succ j =>
    simp only [twl, List.getElem?_cons_succ, List.getElem?_map, Option.map_eq_some_iff] at hx
    obtain ⟨k, hk, rfl⟩ := hx
    exact Or.inr ⟨k, List.mem_of_getElem? hk, rfl⟩
theorem TP.lt {T : TG} {u : TS} {H : Heap} (h : TP T u H) {q : Nat} (hq : tA T q) : q < H.size := by
  rcases hq with rfl | ⟨k, hk, rfl⟩
  · exact (h 0 (T.2.2.1, .inr (0, tfs T u)) rfl).lt
  · obtain ⟨j, h1, -⟩ := tw_at T u hk
    exact (h _ _ h1).lt
section LWS
variable {X : Ev} {G : GG} {T : TG} {own : String} {cc : ByteArray} {d pc : Nat} {lv : List (Nat × Value)} {st rest stk As : List Value} {h : HS} {u : TS} {Q : State → Prop}
theorem lh_run {Q1 : QT} {E1 : ET} (args : Array Value) (hr : ∀ (H : Heap) (locs : List Loc) (ls : Array Slot), RP X G h H → va_S (ev_A X) (ev_s X).heap H locs → lv_has ls (ev_n X) lv → vx_Run (ev_p X) (ev_l X) (ev_e X) (ev_R X) (ev_s X) (ev_m X) (ev_a X) (ev_b X) (ev_h X) (ev_c X) H locs (hZ h - (ev_s X).heap.size) (hL h - slS (ev_s X).heap) (gCC G - hZ h) (gSS G - hL h) (F0 (ev_m X) pc ls stk) rest (hQc G h Q1 args) (hXc G h E1) (hD h))
    (kk : ∀ v h', Q1 v h' → LH X G T h' u Q (pc + 3) lv (v.toList ++ rest)) (kx : ∀ q h', ¬ E1 q h') : LH X G T h u Q pc lv stk := by
  intro H locs ls hP hS hl T1 hT Z
  obtain ⟨hP, hTP, hdis⟩ := hP
  rcases hr H locs ls hP hS hl T1 hT Z with ⟨v, st₀, t, T', L, h0, Z', hL, e1, e2, ⟨⟨v', h', hv, hq, hrh, hsub⟩, hF⟩, sx⟩ | ⟨q, st₀, t, T', L, E, ce, h0, Z', hL, e1, e2, ⟨⟨h', hq, -⟩, -⟩, -⟩
  · cases hv
    obtain ⟨-, k2, k3⟩ := vx_keep h0 e1 hS (fun q _ z => hP.2.1 q z) hP.2.1 hL hF
    have hP' : RP X G h' T'.heap := by rw [e1]; exact hP.next hrh hsub
    have hTP' : TP T u T'.heap := hTP.kept fun q hq => k2 q (hTP.lt hq) (hdis q hq)
    have hdis' : tDis T h' := fun q hq z => hdis q hq (hsub.1 q z)
    obtain ⟨t2, a1, b1⟩ := W.narrow (by rw [hP'.1.1.1]; have := hP'.2.2.1; omega) (by rw [hP'.1.1.2.1]; have := hP'.2.2.2; omega) (kk v h' hq T'.heap (locs ++ L) ls ⟨hP', hTP', hdis'⟩ k3 hl) T' rfl Z'
    exact ⟨t2, sx t2 a1, b1⟩
  · exact (kx q h' hq).elim
theorem RH.keep {h : HS} {H H1 : Heap} (r : RH G h H) (hz : H1.size = H.size) (hs : slS H1 = slS H) (ho : ∀ q : Nat, hT h q ≠ 0 → H1[q]? = H[q]?) : RH G h H1 := by
  obtain ⟨⟨r1, r2, r3, r4⟩, r5, r6, r7, r8, r9, r10, r11, r12⟩ := r
  refine ⟨⟨by rw [hz]; exact r1, by rw [hs]; exact r2, r3, r4⟩, r5, fun a ha => (r6 a ha).kept (ho a (fun z => by rw [z, hE0] at ha; cases ha)), fun a i e hi => ?_, r8, r9, r10, r11, fun a ha h0 => ?_⟩
  · obtain ⟨cell, c1, c2⟩ := r7 a i e hi
    exact ⟨cell, by rw [ho a (by omega)]; exact c1, c2⟩
  · rw [ho a (by omega)]
    exact r12 a ha h0
/-- a call of the twin: seen from here as if the frame were entered anew -/
theorem lh_twin {post : Option Value → TS → Prop} {y : MethodName} {bytes : ByteArray} {maxL index n d2 : Nat} {ret : Option FieldType} (C : HC X G own cc d) (hKT : KT T (ev_s X)) (hta : ∀ q, tA T q → (ev_s X).heap.size ≤ q) (hM : TMet (ev_l X) y bytes maxL ret d2 T (.ref T.2.2.1 :: As) u post)
    (h1 : Jvm.Cond.methodLink own index y ∈ lw_all) (h2 : Jvm.Cond.instanceMethod y ∈ lw_all) (h3 : Jvm.Cond.selects RX6 y y ∈ lw_all) (h5 : Jvm.Cond.code y bytes maxL ret ∈ lw_all)
    (hy : y.cls = RX6 ∧ (parseMethodDescriptor y.desc).map (fun d => d.parameters.length) = some n) (hd : d2 + 1 ≤ d ∧ maxL ≤ 45) (hn : As.length = n) (hstk : stk = As.reverse ++ .ref T.2.2.1 :: rest) (hc : (rest.map fun v => v.category).sum ≤ 8) (hdg : decode cc pc = .ok (.invokevirtual index, 3))
    (hz0 : ∀ q, tA T q → hT h q = 0) (kk : ∀ v u', post v u' → LH X G T h u' Q (pc + 3) lv (v.toList ++ rest)) : LH X G T h u Q pc lv stk := by
  intro H locs ls hP hS hl T1 hT1 Z
  obtain ⟨hP, hTP, hdis⟩ := hP
  have hr2 := hroom2 (h := h) C hP
  have Y := vx_rebase Z (R' := { frames := d, locals := 64 * d + 10304, cells := 0, slots := 0 }) (by rw [C.2.2.2.1]; exact Nat.le_refl _) (by rw [C.2.2.2.1]; exact Nat.le_refl _) (by show hZ h - (ev_s X).heap.size + 0 ≤ _; omega) (by show hL h - slS (ev_s X).heap + 0 ≤ _; omega)
  obtain ⟨s', hA'⟩ : ∃ z, z = (T1.setVm (ev_s X).vm).setFrames (.invoking (ev_m X) (ev_a X) :: ev_b X) := ⟨_, rfl⟩
  rw [← hA'] at Y
  have hvm : s'.vm = (ev_s X).vm := by rw [hA']; rfl
  have hhp : s'.heap = T1.heap := by rw [hA']; rfl
  have hW0 : (ev_s X).WarmedH s'.vm := by rw [hvm]; exact State.WarmedH.refl _
  have hts' : ∀ w ∈ lw_all, w.before (ev_a X) s' = true := fun w hw => word_at hW0 (lw_self w hw).2 (C.1.2.2.2.2.1 w hw)
  have hKT' : KT T s' := va_K.moved hW0.alike hKT
  have hrun := va_runV (p := ev_p X) (l := ev_l X) (e := ev_e X) (R := { frames := d, locals := 64 * d + 10304, cells := 0, slots := 0 }) (s := s') (m := ev_m X) (args := ev_a X) (below := ev_b X) (meth := ev_h X) (c := ev_c X) (H := T1.heap) (locs := []) (cells := 0) (slots := 0) (g := F0 (ev_m X) pc ls stk) (rest := rest) (n := n) (C := RX6) (b := T.2.2.1) (As := As) (cc := cc) (index := index)
    ⟨C.1.1, C.1.2.1, C.1.2.2.1, by rw [hvm]; exact C.1.2.2.2.1, hts'⟩ hM (cwV n hts' (lw_V h1 h2 h3 q144 h5) rfl rfl rfl ⟨hy.1, by rw [hy.1]; decide +kernel, by rw [hy.1]; decide +kernel, hy.2⟩ (by show d2 + 1 ≤ d ∧ 8 + (maxL + 11) + 64 * d2 ≤ 64 * d + 10304; omega)) ⟨tk_pc, va_recv (D := T.1) (cl := clT) (ws := twl T u) hKT' (by rw [hT1]; exact hTP) (ci := 0) (q0 := 0) rfl rfl, fun U hU hW => ⟨rfl, by show TP T u U.heap; rw [hU, hT1]; exact hTP, va_K.moved hW.alike hKT'⟩⟩ rfl hn hl.1 hstk (lv_room hc) hdg ⟨Nat.le_refl 0, Nat.le_refl 0⟩
  obtain ⟨v, st₀, t, T', L, h0, Z', hL, e1, e2, ⟨⟨v', u', hv, hp, hb⟩, hz, hk⟩, sx⟩ := hrun T1 rfl Y
  cases hv
  rw [h0] at hz hk
  have k1 : T'.heap.size = T1.heap.size := by
    have q1 : T'.heap.size ≤ s'.heap.size + 0 := Z'.same.2.2.1
    rw [hhp] at q1
    rw [e1] at q1 ⊢
    omega
  have k2 : slS T'.heap = slS T1.heap := by
    refine slS_same k1 fun q => ?_
    have q6 := Z'.same.2.2.2.2.2
    by_cases hq : q < T1.heap.size
    · have hq1 : s'.heap[q]? = some T1.heap[q] := by rw [hhp]; exact Array.getElem?_eq_getElem hq
      obtain ⟨c', a1, -, a3, -⟩ := q6 q _ hq1
      have a1' : T'.heap[q]? = some c' := a1
      rw [a1', Array.getElem?_eq_getElem hq]
      simp [a3]
    · rw [Array.getElem?_eq_none (by omega), Array.getElem?_eq_none (by omega)]
  have k3 : ∀ q : Nat, ¬ tA T q → T'.heap[q]? = T1.heap[q]? := fun q hq => by
    by_cases hlt : q < T1.heap.size
    · rw [e1]; exact hk q hlt hq
    · rw [Array.getElem?_eq_none (by omega), Array.getElem?_eq_none (by omega)]
  rw [hA'] at Y Z'
  have Z5 := vx_back9L Z Y Z'
  have hP' : RP X G h T'.heap := ⟨hP.1.keep (by rw [k1, hT1]) (by rw [k2, hT1]) (fun q hq => by rw [k3 q (fun z => hq (hz0 q z)), hT1]), hP.2⟩
  have hTP' : TP T u' T'.heap := by rw [e1]; exact hb
  have hSS : va_S (ev_A X) (ev_s X).heap T'.heap (locs ++ L) := by
    refine ⟨by rw [k1, hT1]; exact hS.1, fun q q1 q2 => ?_, fun q hq => ?_⟩
    · rw [k3 q (fun z => by have := hta q z; omega), hT1]
      exact hS.2.1 q q1 q2
    · rcases List.mem_append.mp hq with hq | hq
      · exact hS.2.2 q hq
      · exact C.2.2.2.2.1 _ (hta _ (hL q hq))
  obtain ⟨t2, a1, b1⟩ := kk v u' hp T'.heap (locs ++ L) ls ⟨hP', hTP', hdis⟩ hSS hl T' rfl Z5
  exact ⟨t2, sx t2 a1, b1⟩
end LWS
