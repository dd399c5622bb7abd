/-! THE TWIN (GathersAllFaultsModel): one object and its 40 int arrays. u.1 k j: place j of the array in field k; u.2 k: the int (or boolean) in field k. -/
abbrev TS : Type := (Nat → Nat → Int32) × (Nat → Int32)
abbrev TG : Type := va_G × ClassId × Nat × (Nat → Nat)
abbrev clT : List vw_C := [(RX6, TX6, 54)]
def tLA : List Nat := [0, 1, 2, 3, 4, 5, 7, 8, 9, 10, 11, 12, 13, 14, 15, 16, 17, 18, 19, 24, 25, 26, 27, 28, 29, 30, 31, 32, 36, 37, 38, 39, 40, 41, 47, 51]
def tln (k : Nat) : Nat := if k = 0 then 7 else if k ≤ 5 then 21 else if k ≤ 15 then 25 else if k ≤ 19 then 33 else if k ≤ 25 then 16384 else if k ≤ 32 then 400 else if k = 36 then 96 else if k ≤ 41 then 100 else if k = 47 then 1400 else 32
def tfv (G : TG) (u : TS) (k : Nat) : Value := if k ∈ tLA then .ref (G.2.2.2 k) else .int (u.2 k)
def tfs (G : TG) (u : TS) : List Value := (List.range 54).map (tfv G u)
def twl (G : TG) (u : TS) : va_W := (G.2.2.1, .inr (0, tfs G u)) :: tLA.map (fun k => (G.2.2.2 k, .inl (G.2.1, (tln k, .inl (u.1 k)))))
def TP (G : TG) (u : TS) (H : Heap) : Prop := va_P G.1 clT (twl G u) H
def tA (G : TG) : Nat → Prop := fun q => q = G.2.2.1 ∨ ∃ k, k ∈ tLA ∧ q = G.2.2.2 k
/-- its cells are apart -/
def TD (G : TG) : Prop := (∀ k, k ∈ tLA → G.2.2.2 k ≠ G.2.2.1) ∧ ∀ i j, i ∈ tLA → j ∈ tLA → G.2.2.2 i = G.2.2.2 j → i = j
def KT (G : TG) (U : State) : Prop := va_K G.1 clT [(G.2.1, .int)] U
def tpI (u : TS) (k : Nat) (v : Int32) : TS := (u.1, fun j => if j = k then v else u.2 j)
def tpA (u : TS) (k : Nat) (i : Nat) (v : Int32) : TS := (fun j => if j = k then upd (u.1 k) i v else u.1 j, u.2)
def bz (v : Int32) : Prop := v = 0 ∨ v = 1
theorem bz_nar {v : Int32} (h : bz v) : narrow .boolean (.int v) = .int v := by rcases h with h | h <;> subst h <;> rfl
theorem bz_fit {v : Int32} (h : bz v) : fits .boolean (.int v) = true := by rcases h with h | h <;> subst h <;> rfl
theorem bz0 : bz 0 := Or.inl rfl
theorem bz1 : bz 1 := Or.inr rfl
theorem tfs_len (G : TG) (u : TS) : (tfs G u).length = 54 := by simp [tfs]
theorem tfs_at (G : TG) (u : TS) {k : Nat} (hk : k < 54) : (tfs G u)[k]? = some (tfv G u k) := by simp [tfs, hk]
theorem tfs_set (G : TG) (u : TS) {k : Nat} (hk : k < 54) (ha : k ∉ tLA) (v : Int32) : (tfs G u).set k (.int v) = tfs G (tpI u k v) := by
  apply List.ext_getElem?
  intro j
  by_cases hj : j < 54
  · by_cases e : k = j
    · subst e
      rw [List.getElem?_set_self (by rw [tfs_len]; exact hk), tfs_at _ _ hk]
      simp [tfv, ha, tpI]
    · rw [List.getElem?_set_ne e, tfs_at _ _ hj, tfs_at _ _ hj]
      simp [tfv, tpI, Ne.symm e]
  · have h1 : ((tfs G u).set k (.int v)).length ≤ j := by rw [List.length_set, tfs_len]; omega
    have h2 : (tfs G (tpI u k v)).length ≤ j := by rw [tfs_len]; omega
    rw [List.getElem?_eq_none h1, List.getElem?_eq_none h2]
theorem tfs_tpA (G : TG) (u : TS) (k i : Nat) (v : Int32) : tfs G (tpA u k i v) = tfs G u := by simp [tfs, tfv, tpA]
/-- the place of an array in the world's list -/
theorem tw_at (G : TG) (u : TS) {k : Nat} (hk : k ∈ tLA) : ∃ q, (twl G u)[q + 1]? = some (G.2.2.2 k, .inl (G.2.1, (tln k, .inl (u.1 k)))) ∧ tLA[q]? = some k := by
  obtain ⟨q, hq⟩ := List.getElem?_of_mem hk
  exact ⟨q, by simp [twl, hq], hq⟩
theorem tLA_nd : ∀ i j k : Nat, tLA[i]? = some k → tLA[j]? = some k → i = j := by
  intro i j k h1 h2
  have hn : tLA.Nodup := by decide
  exact (List.getElem?_inj (List.getElem?_eq_some_iff.mp h1).1 hn).mp (h1.trans h2.symm)
theorem TD.D {G : TG} (h : TD G) (u : TS) : va_D (tA G) (twl G u) := by
  have key : ∀ (i : Nat) (p : Nat × va_E), (twl G u)[i]? = some p → (i = 0 ∧ p.1 = G.2.2.1) ∨ ∃ j k, i = j + 1 ∧ tLA[j]? = some k ∧ p.1 = G.2.2.2 k := by
    intro i p hp
    cases i with
    | zero => simp [twl] at hp; exact Or.inl ⟨rfl, by rw [← hp]⟩
    | succ j =>
      simp only [twl, List.getElem?_cons_succ, List.getElem?_map, Option.map_eq_some_iff] at hp
      obtain ⟨k, hk, rfl⟩ := hp
      exact Or.inr ⟨j, k, rfl, hk, rfl⟩
  refine ⟨fun i j p q hp hq e => ?_, fun i p hp => ?_⟩
  · rcases key i p hp with ⟨rfl, e1⟩ | ⟨i', k1, rfl, h1, e1⟩ <;> rcases key j q hq with ⟨rfl, e2⟩ | ⟨j', k2, rfl, h2, e2⟩
    · rfl
    · exact absurd (e2.symm.trans (e.symm.trans e1)) (h.1 k2 (List.mem_of_getElem? h2))
    · exact absurd (e1.symm.trans (e.trans e2)) (h.1 k1 (List.mem_of_getElem? h1))
    · have e3 := h.2 k1 k2 (List.mem_of_getElem? h1) (List.mem_of_getElem? h2) (e1.symm.trans (e.trans e2))
      subst e3
      rw [tLA_nd i' j' k1 h1 h2]
  · rcases key i p hp with ⟨rfl, e1⟩ | ⟨i', k1, rfl, h1, e1⟩
    · exact Or.inl e1
    · exact Or.inr ⟨k1, List.mem_of_getElem? h1, e1⟩
/-- the contract: from u, the answer v and the state behind it as 'post' says -/
def tQc (G : TG) (post : Option Value → TS → Prop) : Array Value → State → Outcome → State → Prop := fun _ st oc t => (∃ v u', oc = .returned v ∧ post v u' ∧ TP G u' t.heap) ∧ va_F (tA G) st t
def tPc (G : TG) (u : TS) (args : List Value) : Array Value → State → Prop := va_Pc args (fun U => TP G u U.heap ∧ KT G U)
abbrev trm (d : Nat) : Room := { frames := d, cells := 0, slots := 0, locals := 64 * d }
def TMet (l : Launch) (y : MethodName) (bytes : ByteArray) (maxL : Nat) (ret : Option FieldType) (d : Nat) (G : TG) (args : List Value) (u : TS) (post : Option Value → TS → Prop) : Prop :=
  Met l y (ws_ y bytes maxL ret) (trm d) (tPc G u args) (tQc G post) 0 0 (tA G)
def tI (k : Int32 → TS → Prop) : Option Value → TS → Prop := fun v u => ∃ r, v = some (.int r) ∧ k r u
def tL (k : Int64 → TS → Prop) : Option Value → TS → Prop := fun v u => ∃ r, v = some (.long r) ∧ k r u
def tV (k : TS → Prop) : Option Value → TS → Prop := fun v u => v = none ∧ k u
/-- the walk's context in the twin -/
def TC (X : Ev) (G : TG) (cc : ByteArray) (d : Nat) : Prop := GC X RX6 cc ∧ KT G (ev_s X) ∧ TD G ∧ ev_A X = tA G ∧ ev_R X = trm d
abbrev tQ (X : Ev) (G : TG) (post : Option Value → TS → Prop) : State → Prop := MQ (ev_b X) (tQc G post) (ev_a X) (ev_s X) 0 0 (tA G)
section TWS
variable {X : Ev} {G : TG} {cc : ByteArray} {d pc : Nat} {lv : List (Nat × Value)} {st : List Value} {u : TS} {Q : State → Prop}
theorem tk_getI (C : TC X G cc d) {index k : Nat} (hk : k < 54) (ha : k ∉ tLA) (hw : Jvm.Cond.fieldLink RX6 index RX6 (TX6 k).2.1 (TX6 k).2.2.1 ∈ lw_all) (hsm : (TX6 k).1 = RX6) (hdg : decode cc pc = .ok (.getfield index, 3))
    (kk : GK X (TP G u) 0 0 Q (pc + 3) lv (.int (u.2 k) :: st)) : GK X (TP G u) 0 0 Q pc lv (.ref G.2.2.1 :: st) :=
  fun H locs ls hP hS hl => va_get C.1.1 C.1.2.1 C.1.2.2.2.2.1 in_X6 C.1.2.2.2.1 C.2.1 hP 0 rfl rfl k hk (C.1.2.2.2.2.1 _ hw) (fun x hx => by rw [hsm] at hx; exact hx) (v := .int (u.2 k)) (by rw [tfs_at _ _ hk]; simp [tfv, ha]) hdg (kk H locs ls hP hS hl)
theorem tk_getA (C : TC X G cc d) {index k : Nat} (hk : k < 54) (ha : k ∈ tLA) (hw : Jvm.Cond.fieldLink RX6 index RX6 (TX6 k).2.1 (TX6 k).2.2.1 ∈ lw_all) (hsm : (TX6 k).1 = RX6) (hdg : decode cc pc = .ok (.getfield index, 3))
    (kk : GK X (TP G u) 0 0 Q (pc + 3) lv (.ref (G.2.2.2 k) :: st)) : GK X (TP G u) 0 0 Q pc lv (.ref G.2.2.1 :: st) :=
  fun H locs ls hP hS hl => va_get C.1.1 C.1.2.1 C.1.2.2.2.2.1 in_X6 C.1.2.2.2.1 C.2.1 hP 0 rfl rfl k hk (C.1.2.2.2.2.1 _ hw) (fun x hx => by rw [hsm] at hx; exact hx) (v := .ref (G.2.2.2 k)) (by rw [tfs_at _ _ hk]; simp [tfv, ha]) hdg (kk H locs ls hP hS hl)
theorem tk_putI (C : TC X G cc d) {index k : Nat} {v : Int32} (hk : k < 54) (ha : k ∉ tLA) (hw : Jvm.Cond.fieldLink RX6 index RX6 (TX6 k).2.1 (TX6 k).2.2.1 ∈ lw_all) (hsm : (TX6 k).1 = RX6) (hfin : (TX6 k).2.2.2 = false) {ty : FieldType} (hd : parseFieldDescriptor (TX6 k).2.2.1 = some ty) (hn : narrow ty (.int v) = .int v) (hfit : fits ty (.int v) = true) (hdg : decode cc pc = .ok (.putfield index, 3))
    (kk : ∀ u', u' = tpI u k v → GK X (TP G u') 0 0 Q (pc + 3) lv st) : GK X (TP G u) 0 0 Q pc lv (.int v :: .ref G.2.2.1 :: st) := by
  intro H locs ls hP hS hl
  have hD := C.2.2.1.D u
  rw [← C.2.2.2.1] at hD
  refine va_put C.1.1 C.1.2.1 C.1.2.2.2.2.1 in_X6 tyX6 tyX6_ok nmX6 C.1.2.2.2.1 C.2.1 hP hD hS 0 rfl rfl k hk (C.1.2.2.2.2.1 _ hw) (fun x hx => by rw [hsm] at hx; exact hx) hfin hd hn hfit (by rw [tfs_len]; exact hk) hdg (fun H1 locs1 hP1 _ hS1 => kk _ rfl H1 locs1 ls ?_ hS1 hl)
  have e : (twl G u).set 0 (G.2.2.1, .inr (0, (tfs G u).set k (.int v))) = twl G (tpI u k v) := by rw [tfs_set G u hk ha v]; rfl
  rw [e] at hP1
  exact hP1
theorem tk_ald (C : TC X G cc d) {k : Nat} {i : Int32} (ha : k ∈ tLA) (hin : vp_in i (tln k)) (hdg : decode cc pc = .ok (.iaload, 1))
    (kk : GK X (TP G u) 0 0 Q (pc + 1) lv (.int (u.1 k i.toNatClampNeg) :: st)) : GK X (TP G u) 0 0 Q pc lv (.int i :: .ref (G.2.2.2 k) :: st) := by
  intro H locs ls hP hS hl
  obtain ⟨q, hq, -⟩ := tw_at G u ha
  exact va_iald C.1.1 C.1.2.1 C.2.1 hP (q + 1) 0 hq rfl hin hdg (kk H locs ls hP hS hl)
theorem tk_ast (C : TC X G cc d) {k : Nat} {i v : Int32} (ha : k ∈ tLA) (hin : vp_in i (tln k)) (hdg : decode cc pc = .ok (.iastore, 1))
    (kk : ∀ u', u' = tpA u k i.toNatClampNeg v → GK X (TP G u') 0 0 Q (pc + 1) lv st) : GK X (TP G u) 0 0 Q pc lv (.int v :: .int i :: .ref (G.2.2.2 k) :: st) := by
  intro H locs ls hP hS hl
  have hD := C.2.2.1.D u
  rw [← C.2.2.2.1] at hD
  obtain ⟨q, hq, hk⟩ := tw_at G u ha
  refine va_iast C.1.1 C.1.2.1 C.2.1 hP hD hS (q + 1) 0 hq rfl hin hdg (fun H1 locs1 hP1 _ hS1 => kk _ rfl H1 locs1 ls ?_ hS1 hl)
  have e : (twl G u).set (q + 1) (G.2.2.2 k, .inl (G.2.1, (tln k, .inl (upd (u.1 k) i.toNatClampNeg v)))) = twl G (tpA u k i.toNatClampNeg v) := by
    unfold twl
    rw [tfs_tpA, List.set_cons_succ]
    congr 1
    apply List.ext_getElem?
    intro j
    by_cases e : q = j
    · subst e
      rw [List.getElem?_set_self (by simpa using (List.getElem?_eq_some_iff.mp hk).1), List.getElem?_map, hk]
      simp [tpA]
    · rw [List.getElem?_set_ne e, List.getElem?_map, List.getElem?_map]
      cases hj : tLA[j]? with
      | none => rfl
      | some k2 =>
        have hne : k2 ≠ k := fun z => e (tLA_nd q j k hk (by rw [← z]; exact hj))
        simp [tpA, hne]
  rw [e] at hP1
  exact hP1
theorem tk_len (C : TC X G cc d) {k : Nat} (ha : k ∈ tLA) (hdg : decode cc pc = .ok (.arraylength, 1))
    (kk : GK X (TP G u) 0 0 Q (pc + 1) lv (.int (nI (tln k)) :: st)) : GK X (TP G u) 0 0 Q pc lv (.ref (G.2.2.2 k) :: st) := by
  intro H locs ls hP hS hl
  obtain ⟨q, hq, -⟩ := tw_at G u ha
  exact va_alen C.1.1 C.1.2.1 C.2.1 hP (q + 1) 0 hq rfl rfl hdg (kk H locs ls hP hS hl)
theorem tk_run {rest stk : List Value} {post : Option Value → TS → Prop} (args : Array Value) (hA : ev_A X = tA G)
    (hr : ∀ H locs ls, TP G u H → lv_has ls (ev_n X) lv → va_Run (ev_p X) (ev_l X) (ev_e X) (ev_R X) (ev_s X) (ev_m X) (ev_a X) (ev_b X) (ev_h X) (ev_c X) H locs 0 0 0 0 (F0 (ev_m X) pc ls stk) rest (tQc G post args) (tA G))
    (kk : ∀ v u', post v u' → GK X (TP G u') 0 0 Q (pc + 3) lv (v.toList ++ rest)) : GK X (TP G u) 0 0 Q pc lv stk := by
  intro H locs ls hP hS hl T hT Z
  obtain ⟨v, st₀, t, T', L, h0, Z', hL, e1, e2, ⟨⟨v', u', hv, hp, hb⟩, hz, hk⟩, sx⟩ := hr H locs ls hP hl T hT Z
  cases hv
  rw [h0] at hz hk
  rw [hA] at hS
  obtain ⟨t2, a1, b1⟩ := kk v u' hp T'.heap (locs ++ L) ls (by rw [e1]; exact hb) (by
    rw [hA]
    exact ⟨Nat.le_trans hS.1 (by rw [e1]; exact hz), fun q h1 h2 => by rw [e1, hk q (Nat.lt_of_lt_of_le h1 hS.1) h2]; exact hS.2.1 q h1 h2, fun q hq => by
      rcases List.mem_append.mp hq with h | h
      · exact hS.2.2 q h
      · exact hL q h⟩) hl T' rfl Z'
  exact ⟨t2, sx t2 a1, b1⟩
theorem tk_pc {args : List Value} : FrameBlind (tPc G u args) := fun a U g mk q => by
  obtain ⟨q0, qP, qK⟩ := q
  exact ⟨q0, qP, va_K.moved (u := U) (U := U.calling g mk a) (Vm.Alike.refl U.vm) qK⟩
theorem tk_callV (C : TC X G cc d) {y : MethodName} {bytes : ByteArray} {maxL index n d2 : Nat} {ret : Option FieldType} {As rest stk : List Value} {post : Option Value → TS → Prop} (hM : TMet (ev_l X) y bytes maxL ret d2 G (.ref G.2.2.1 :: As) u post)
    (h1 : Jvm.Cond.methodLink RX6 index y ∈ lw_all) (h2 : Jvm.Cond.instanceMethod y ∈ lw_all) (h3 : Jvm.Cond.selects RX6 y y ∈ lw_all) (h5 : Jvm.Cond.code y bytes maxL ret ∈ lw_all)
    (hy : y.cls = RX6 ∧ (parseMethodDescriptor y.desc).map (fun d => d.parameters.length) = some n) (hd : d2 + 1 ≤ d ∧ maxL ≤ 45) (hn : As.length = n) (hstk : stk = As.reverse ++ .ref G.2.2.1 :: rest) (hc : (rest.map fun v => v.category).sum ≤ 8) (hdg : decode cc pc = .ok (.invokevirtual index, 3))
    (kk : ∀ v u', post v u' → GK X (TP G u') 0 0 Q (pc + 3) lv (v.toList ++ rest)) : GK X (TP G u) 0 0 Q pc lv stk := by
  refine tk_run (Value.ref G.2.2.1 :: As).toArray C.2.2.2.1 (fun H locs ls hP hl => ?_) kk
  have hR := C.2.2.2.2
  refine va_runV (n := n) (C := RX6) (b := G.2.2.1) (As := As) ⟨C.1.1, C.1.2.1, C.1.2.2.1, C.1.2.2.2.1, C.1.2.2.2.2.1⟩ hM (cwV n C.1.2.2.2.2.1 (lw_V h1 h2 h3 q144 h5) rfl rfl rfl ⟨hy.1, by rw [hy.1]; decide +kernel, by rw [hy.1]; decide +kernel, hy.2⟩ ?_) ⟨tk_pc, va_recv C.2.1 hP (ci := 0) (q0 := 0) rfl rfl, fun U hU hW => ⟨rfl, by rw [hU]; exact hP, va_K.moved hW.alike C.2.1⟩⟩ rfl hn hl.1 hstk (lv_room hc) hdg ?_
  · rw [hR]
    dsimp only
    omega
  · rw [hR]
    exact ⟨Nat.le_refl 0, Nat.le_refl 0⟩
theorem tk_callS (C : TC X G cc d) {y : MethodName} {bytes : ByteArray} {maxL index n d2 : Nat} {ret : Option FieldType} {As rest stk : List Value} {post : Option Value → TS → Prop} (hM : TMet (ev_l X) y bytes maxL ret d2 G As u post)
    (h1 : Jvm.Cond.methodLink RX6 index y ∈ lw_all) (h2 : Jvm.Cond.static y ∈ lw_all) (h5 : Jvm.Cond.code y bytes maxL ret ∈ lw_all)
    (hy : y.cls = RX6 ∧ (parseMethodDescriptor y.desc).map (fun d => d.parameters.length) = some n) (hd : d2 + 1 ≤ d ∧ maxL ≤ 45) (hn : As.length = n) (hstk : stk = As.reverse ++ rest) (hc : (rest.map fun v => v.category).sum ≤ 8) (hdg : decode cc pc = .ok (.invokestatic index, 3))
    (kk : ∀ v u', post v u' → GK X (TP G u') 0 0 Q (pc + 3) lv (v.toList ++ rest)) : GK X (TP G u) 0 0 Q pc lv stk := by
  refine tk_run As.toArray C.2.2.2.1 (fun H locs ls hP hl => ?_) kk
  have hR := C.2.2.2.2
  refine va_runS (n := n) (As := As) ⟨C.1.1, C.1.2.1, C.1.2.2.1, C.1.2.2.2.1, C.1.2.2.2.2.1⟩ hM (va_cwS n C.1.2.2.2.2.1 (lw_S h1 h2 (by rw [hy.1]; exact q144) h5) rfl rfl rfl ⟨by rw [hy.1]; decide +kernel, by rw [hy.1]; decide +kernel, hy.2⟩ ?_) ⟨tk_pc, fun U hU hW => ⟨rfl, by rw [hU]; exact hP, va_K.moved hW.alike C.2.1⟩⟩ rfl hn hl.1 hstk (lv_room hc) hdg ?_
  · rw [hR]
    dsimp only
    omega
  · rw [hR]
    exact ⟨Nat.le_refl 0, Nat.le_refl 0⟩
theorem tk_iret (C : TC X G cc d) {k : Int32 → TS → Prop} {v : Int32} (hr : (ev_h X).sig.returnType = some .int) (hdg : decode cc pc = .ok (.ireturn, 1)) (kk : k v u) : GK X (TP G u) 0 0 (tQ X G (tI k)) pc lv [.int v] :=
  fun H locs ls hP hS hl => W.iret (hlocks := C.1.2.2.2.2.2) C.1.1 C.1.2.1 hr (fun t ht hW => ⟨⟨_, u, rfl, ⟨v, rfl, kk⟩, by rw [ht]; exact hP⟩, by rw [C.2.2.2.1] at hS; exact hS.F ht⟩) (by rw [C.2.2.2.1] at hS; exact hS.2.2) hdg
theorem tk_zret (C : TC X G cc d) {k : Int32 → TS → Prop} {v : Int32} (hr : (ev_h X).sig.returnType = some .boolean) (hdg : decode cc pc = .ok (.ireturn, 1)) (hz : bz v) (kk : k v u) : GK X (TP G u) 0 0 (tQ X G (tI k)) pc lv [.int v] :=
  fun H locs ls hP hS hl => W.zret (hlocks := C.1.2.2.2.2.2) C.1.1 C.1.2.1 hr (bz_nar hz) (fun t ht hW => ⟨⟨_, u, rfl, ⟨v, rfl, kk⟩, by rw [ht]; exact hP⟩, by rw [C.2.2.2.1] at hS; exact hS.F ht⟩) (by rw [C.2.2.2.1] at hS; exact hS.2.2) hdg
theorem tk_lret (C : TC X G cc d) {k : Int64 → TS → Prop} {v : Int64} (hr : (ev_h X).sig.returnType = some .long) (hdg : decode cc pc = .ok (.lreturn, 1)) (kk : k v u) : GK X (TP G u) 0 0 (tQ X G (tL k)) pc lv [.long v] :=
  fun H locs ls hP hS hl => W.lret (hlocks := C.1.2.2.2.2.2) C.1.1 C.1.2.1 hr (fun t ht hW => ⟨⟨_, u, rfl, ⟨v, rfl, kk⟩, by rw [ht]; exact hP⟩, by rw [C.2.2.2.1] at hS; exact hS.F ht⟩) (by rw [C.2.2.2.1] at hS; exact hS.2.2) hdg
theorem tk_vret (C : TC X G cc d) {k : TS → Prop} (hr : (ev_h X).sig.returnType = none) (hdg : decode cc pc = .ok (.return_, 1)) (kk : k u) : GK X (TP G u) 0 0 (tQ X G (tV k)) pc lv [] :=
  fun H locs ls hP hS hl => W.vret (hlocks := C.1.2.2.2.2.2) C.1.1 C.1.2.1 hr (fun t ht hW => ⟨⟨_, u, rfl, ⟨rfl, kk⟩, by rw [ht]; exact hP⟩, by rw [C.2.2.2.1] at hS; exact hS.F ht⟩) (by rw [C.2.2.2.1] at hS; exact hS.2.2) hdg
end TWS
/-- a body walked from its entry -/
theorem tk_met {l : Launch} {y : MethodName} {bytes : ByteArray} {maxL d : Nat} {ret : Option FieldType} {G : TG} (hG : TD G) {args : List Value} {u : TS} {post : Option Value → TS → Prop} (hy : y.cls = RX6) (hlen : (lg_sl args).length ≤ maxL)
    (body : ∀ X : Ev, ev_l X = l → ev_n X = maxL → (ev_h X).sig.returnType = ret → TC X G bytes d → GK X (TP G u) 0 0 (tQ X G post) 0 (lv_args 0 args) []) : TMet l y bytes maxL ret d G args u post := by
  refine Met.ofW (cc := bytes) (maxL := maxL) (ret := ret) (by rw [hy]; decide +kernel) rfl ?_
  intro p e s m as below meth c s₁ B hml hv
  obtain ⟨rfl, hP, hK⟩ := hv
  have hts := atoms_spec (ws := ws_ y bytes maxL ret) B.pre
  have hts : ∀ w ∈ lw_all, w.before args.toArray s = true := fun w h => hts w (List.mem_cons_of_mem _ h)
  have hown : s.vm.findClass RX6 = some m.cls := by rw [← hy]; exact findClass_of_methodNamed B.named
  have hl := lv_entry args (n := maxL) hlen
  rw [lg_entry_eq]
  exact body (p, l, e, trm d, s, m, args.toArray, below, meth, c, tA G, maxL) rfl rfl B.returns ⟨⟨B.exec, B.bytes, hml, hown, hts, B.notSynchronized⟩, hK, hG, rfl, rfl⟩ s.heap [] _ hP va_S.rf hl
