/-! ROWS: ends of a body, throws and catches, casts, statics, array copies -/
section GMS
variable {X : Ev} {G : GG} {own : String} {cc : ByteArray} {d pc : Nat} {lv : List (Nat × Value)} {st : List Value} {h h0 : HS} {Q : QT} {E : ET} {Q0 : State → Prop}
theorem RP.sub {H : Heap} (hP : RP X G h H) (S0 : HS0 X h0) : hSub h0 h := ⟨fun q hq => by rw [← S0.1]; exact hP.2.1 q hq, by rw [← S0.2.1]; exact hP.2.2.1, by rw [← S0.2.2]; exact hP.2.2.2⟩
theorem RP.wid {H : Heap} (hP : RP X G h H) (S0 : HS0 X h0) : hZ h - (ev_s X).heap.size ≤ gCC G - hZ h0 ∧ hL h - slS (ev_s X).heap ≤ gSS G - hL h0 := by
  have h1 := hP.1.1.2.2.1
  have h2 := hP.1.1.2.2.2
  rw [S0.2.1, S0.2.2]
  omega
theorem gh_iret {v : Int32} (C : HC X G own cc d) (S0 : HS0 X h0) (hr : (ev_h X).sig.returnType = some .int) (hdg : decode cc pc = .ok (.ireturn, 1)) (kk : Q (some (.int v)) h) : GH X G h (hQ X G h0 Q E) pc lv [.int v] := by
  intro H locs ls hP hS hl
  rw [S0.1] at hS
  exact W.widen (hP.wid S0).1 (hP.wid S0).2 (vx_ret (W.iret (hlocks := C.1.2.2.2.2.2) C.1.1 C.1.2.1 hr (fun t ht hW => ⟨⟨_, h, rfl, kk, by rw [ht]; exact hP.1, hP.sub S0⟩, hS.F ht⟩) hS.2.2 hdg))
theorem gh_zret {v : Int32} (C : HC X G own cc d) (S0 : HS0 X h0) (hr : (ev_h X).sig.returnType = some .boolean) (hdg : decode cc pc = .ok (.ireturn, 1)) (hz : bz v) (kk : Q (some (.int v)) h) : GH X G h (hQ X G h0 Q E) pc lv [.int v] := by
  intro H locs ls hP hS hl
  rw [S0.1] at hS
  exact W.widen (hP.wid S0).1 (hP.wid S0).2 (vx_ret (W.zret (hlocks := C.1.2.2.2.2.2) C.1.1 C.1.2.1 hr (bz_nar hz) (fun t ht hW => ⟨⟨_, h, rfl, kk, by rw [ht]; exact hP.1, hP.sub S0⟩, hS.F ht⟩) hS.2.2 hdg))
theorem gh_lret {v : Int64} (C : HC X G own cc d) (S0 : HS0 X h0) (hr : (ev_h X).sig.returnType = some .long) (hdg : decode cc pc = .ok (.lreturn, 1)) (kk : Q (some (.long v)) h) : GH X G h (hQ X G h0 Q E) pc lv [.long v] := by
  intro H locs ls hP hS hl
  rw [S0.1] at hS
  exact W.widen (hP.wid S0).1 (hP.wid S0).2 (vx_ret (W.lret (hlocks := C.1.2.2.2.2.2) C.1.1 C.1.2.1 hr (fun t ht hW => ⟨⟨_, h, rfl, kk, by rw [ht]; exact hP.1, hP.sub S0⟩, hS.F ht⟩) hS.2.2 hdg))
theorem gh_vret (C : HC X G own cc d) (S0 : HS0 X h0) (hr : (ev_h X).sig.returnType = none) (hdg : decode cc pc = .ok (.return_, 1)) (kk : Q none h) : GH X G h (hQ X G h0 Q E) pc lv [] := by
  intro H locs ls hP hS hl
  rw [S0.1] at hS
  exact W.widen (hP.wid S0).1 (hP.wid S0).2 (vx_ret (W.vret (hlocks := C.1.2.2.2.2.2) C.1.1 C.1.2.1 hr (fun t ht hW => ⟨⟨_, h, rfl, kk, by rw [ht]; exact hP.1, hP.sub S0⟩, hS.F ht⟩) hS.2.2 hdg))
theorem gh_aret {r : Option Nat} {rt : FieldType} (C : HC X G own cc d) (S0 : HS0 X h0) (hr : (ev_h X).sig.returnType = some rt) (hrt : (∃ n, rt = .object n) ∨ ∃ t, rt = .array t) (hdg : decode cc pc = .ok (.areturn, 1)) (kk : Q (some (va_rf r)) h) : GH X G h (hQ X G h0 Q E) pc lv [va_rf r] := by
  intro H locs ls hP hS hl
  rw [S0.1] at hS
  exact W.widen (hP.wid S0).1 (hP.wid S0).2 (vx_ret (W.aret (hlocks := C.1.2.2.2.2.2) C.1.1 C.1.2.1 hr hrt (by cases r with | none => exact Or.inl rfl | some a => exact Or.inr ⟨a, rfl⟩) (fun t ht hW => ⟨⟨_, h, rfl, kk, by rw [ht]; exact hP.1, hP.sub S0⟩, hS.F ht⟩) hS.2.2 hdg))
/-! throws -/
theorem hexc {H : Heap} {q : Nat} (C : HC X G own cc d) (hP : RP X G h H) (ht : hT h q = 16 ∨ hT h q = 17) : ∃ (En : String) (ce : Cell), H[q]? = some ce ∧ ce.vm = .none ∧ (ev_s X).vm.findClass En = some ce.cls ∧ exN h q En := by
  have key : ∀ (ci N : Nat) (K : String) (T : u_T), hT h q = ci + 1 → ci < 26 → vwCl[ci]? = some (K, T, N) → ∃ ce : Cell, H[q]? = some ce ∧ ce.vm = .none ∧ (ev_s X).vm.findClass K = some ce.cls := by
    intro ci N K T ht hci hc
    have c0 := hP.1.2.2.1 q (hE_obj ht hci)
    rw [hcell_obj ht hci] at c0
    obtain ⟨r, h1, cell, q1, q2, q3, -⟩ := c0
    exact ⟨cell, q1, q3, by rw [q2]; exact (C.2.1.1.1 ci _ hc).2.1⟩
  rcases ht with ht | ht
  · obtain ⟨ce, a, b, c⟩ := key 15 _ _ _ ht (by decide) rfl
    exact ⟨_, ce, a, b, c, Or.inl ⟨ht, rfl⟩⟩
  · obtain ⟨ce, a, b, c⟩ := key 16 _ _ _ ht (by decide) rfl
    exact ⟨_, ce, a, b, c, Or.inr ⟨ht, rfl⟩⟩
theorem gh_athrow {q : Nat} (C : HC X G own cc d) (hdg : decode cc pc = .ok (.athrow, 1)) (k : GX X G h Q0 pc lv q) : GH X G h Q0 pc lv (.ref q :: st) :=
  fun H locs ls hP hS hl => vx_athrow C.1.1 C.1.2.1 hdg (k H locs ls st hP hS hl)
/-- it goes on to the caller: no handler is here, or what is here isn't for it -/
theorem gx_out {q : Nat} (C : HC X G own cc d) (S0 : HS0 X h0) (hout : ∀ z ∈ (ev_c X).exceptionTable.toList, covers z pc = false) (ht : hT h q = 16 ∨ hT h q = 17) (kk : E q h) : GX X G h (hQ X G h0 Q E) pc lv q := by
  intro H locs ls rest hP hS hl
  obtain ⟨En, ce, a, b, c, e⟩ := hexc C hP ht
  rw [S0.1] at hS
  exact vx_out hout C.1.2.2.2.2.2 a b c (fun t ht hW => ⟨⟨h, kk, e, by rw [ht]; exact hP.1, hP.sub S0⟩, hS.F ht⟩) hS.2.2 (hP.wid S0).1 (hP.wid S0).2
theorem gx_outP {q : Nat} (C : HC X G own cc d) (S0 : HS0 X h0) (hout : ∀ z ∈ (ev_c X).exceptionTable.toList, covers z pc = false ∨ (z.catchType ≠ 0 ∧ ∃ nm : String, Jvm.Cond.classLink own z.catchType nm ∈ lw_all ∧ (RX8, nm) ∈ ncL)) (ht : hT h q = 16) (kk : E q h) : GX X G h (hQ X G h0 Q E) pc lv q := by
  intro H locs ls rest hP hS hl
  obtain ⟨En, ce, a, b, c, e⟩ := hexc C hP (Or.inl ht)
  have hEn : En = RX8 := by
    rcases e with ⟨-, e⟩ | ⟨e, -⟩
    · exact e
    · rw [ht] at e; cases e
  subst hEn
  rw [S0.1] at hS
  exact vx_outP C.1.2.2.2.1 C.1.2.2.2.2.2 (fun z hz => (hout z hz).imp id (fun ⟨z1, nm, z2, z3⟩ => ⟨z1, nm, C.1.2.2.2.2.1 _ z2, C.2.1.2.2.2.2.1 _ z3⟩)) a b c (fun t ht hW => ⟨⟨h, kk, e, by rw [ht]; exact hP.1, hP.sub S0⟩, hS.F ht⟩) hS.2.2 (hP.wid S0).1 (hP.wid S0).2
/-- it is caught by its class -/
theorem gx_catch {q : Nat} {name : String} (C : HC X G own cc d) (pre : List ExceptionTableEntry) (x : ExceptionTableEntry) (suf : List ExceptionTableEntry) (hsplit : (ev_c X).exceptionTable.toList = pre ++ x :: suf) (hpass : ∀ z ∈ pre, covers z pc = false) (hx : covers x pc = true) (hx0 : x.catchType ≠ 0)
    (hlink : Jvm.Cond.classLink own x.catchType name ∈ lw_all) (hcast : Jvm.Cond.castable RX8 name ∈ lw_tbl ∧ Jvm.Cond.castable RX10 name ∈ lw_tbl) (ht : hT h q = 16 ∨ hT h q = 17) (kk : GH X G h Q0 x.handlerPc lv [.ref q]) : GX X G h Q0 pc lv q := by
  intro H locs ls rest hP hS hl
  obtain ⟨En, ce, a, b, c, e⟩ := hexc C hP ht
  refine vx_catch C.1.2.2.2.1 pre x suf hsplit (fun z hz => Or.inl (hpass z hz)) hx hx0 (C.1.2.2.2.2.1 _ hlink) ?_ a b c (kk H locs ls hP hS hl)
  rcases e with ⟨-, e⟩ | ⟨-, e⟩
  · rw [e]; exact va_Nw.use rfl (C.2.1.2.1 _ hcast.1 rfl)
  · rw [e]; exact va_Nw.use rfl (C.2.1.2.1 _ hcast.2 rfl)
/-- it is caught by a handler for all -/
theorem gx_any {q : Nat} (C : HC X G own cc d) (pre : List ExceptionTableEntry) (x : ExceptionTableEntry) (suf : List ExceptionTableEntry) (hsplit : (ev_c X).exceptionTable.toList = pre ++ x :: suf) (hpass : ∀ z ∈ pre, covers z pc = false) (hx : covers x pc = true) (hx0 : x.catchType = 0)
    (ht : hT h q = 16 ∨ hT h q = 17) (kk : GH X G h Q0 x.handlerPc lv [.ref q]) : GX X G h Q0 pc lv q := by
  intro H locs ls rest hP hS hl
  obtain ⟨En, ce, a, b, c, e⟩ := hexc C hP ht
  intro T hT Z
  obtain ⟨vm', X', sx⟩ := Z.thenCaughtThrough q (g := F0 (ev_m X) pc ls rest) rfl (Steps.refl _) (by rw [hT]; exact a) (by rw [b]; rfl) (by obtain ⟨k9, h9, -⟩ := Vm.findClass_spec c; exact ⟨k9, h9⟩) pre x suf hsplit (fun z hz => Or.inl (hpass z hz)) hx (Or.inl hx0)
  obtain ⟨t, a1, b1⟩ := kk H locs ls hP hS hl (T.setVm vm') hT X'
  exact ⟨t, sx.trans a1, b1⟩
/-! casts -/
theorem gh_ckc {r : Option Nat} {nm : String} {index : Nat} (C : HC X G own cc d) (hlink : Jvm.Cond.classLink own index nm ∈ lw_all) (hok : ∀ a, r = some a → ∃ K, hIs h a K ∧ (Jvm.Cond.castable K nm ∈ lw_tbl ∨ K = nm)) (hdg : decode cc pc = .ok (.checkcast index, 3))
    (k : GH X G h Q0 (pc + 3) lv (va_rf r :: st)) : GH X G h Q0 pc lv (va_rf r :: st) := by
  intro H locs ls hP hS hl
  cases r with
  | none => exact lv_castN C.1.1 C.1.2.1 hdg (k H locs ls hP hS hl)
  | some a =>
    obtain ⟨K, hi, hw⟩ := hok a rfl
    have hr := hi.recv C hP hS
    rcases hw with hw | rfl
    · exact va_castY C.1.1 C.1.2.1 C.1.2.2.2.1 (C.1.2.2.2.2.1 _ hlink) (C.2.1.2.1 _ hw rfl) hr hdg (k H locs ls hP hS hl)
    · exact va_castE C.1.1 C.1.2.1 C.1.2.2.2.1 (C.1.2.2.2.2.1 _ hlink) hr hdg (k H locs ls hP hS hl)
theorem gh_castA {a t t0 : Nat} {nm E : String} {index : Nat} (C : HC X G own cc d) (hlink : Jvm.Cond.classLink own index nm ∈ lw_all) (ht : hT h a = t) (h1 : t ∈ tyT) (hty : (tysL G)[t0]? = some (gAr G t, .object E)) (hnm : nm = "[" ++ (FieldType.object E).toString) (hdg : decode cc pc = .ok (.checkcast index, 3))
    (k : GH X G h Q0 (pc + 3) lv (.ref a :: st)) : GH X G h Q0 pc lv (.ref a :: st) := by
  intro H locs ls hP hS hl
  obtain ⟨-, -, -, -, -, q2⟩ := (C.2.1.1.2 t0 _ hty).2
  exact va_castA C.1.1 C.1.2.1 C.1.2.2.2.1 (C.1.2.2.2.2.1 _ hlink) (one_P (h := h) (hP.at ht h1)) 0 rfl (by rw [hnm]; exact q2) hdg (k H locs ls hP hS hl)
theorem gh_instY {a : Nat} {nm K : String} {index : Nat} (C : HC X G own cc d) (hlink : Jvm.Cond.classLink own index nm ∈ lw_all) (hi : hIs h a K) (hw : Jvm.Cond.castable K nm ∈ lw_tbl ∨ K = nm) (hdg : decode cc pc = .ok (.instanceof index, 3))
    (k : GH X G h Q0 (pc + 3) lv (.int 1 :: st)) : GH X G h Q0 pc lv (.ref a :: st) := by
  intro H locs ls hP hS hl
  have hr := hi.recv C hP hS
  rcases hw with hw | rfl
  · exact va_instY C.1.1 C.1.2.1 C.1.2.2.2.1 (C.1.2.2.2.2.1 _ hlink) (C.2.1.2.1 _ hw rfl) hr hdg (k H locs ls hP hS hl)
  · exact va_instE C.1.1 C.1.2.1 C.1.2.2.2.1 (C.1.2.2.2.2.1 _ hlink) hr hdg (k H locs ls hP hS hl)
theorem gh_instNo {r : Option Nat} {nm : String} {index : Nat} (C : HC X G own cc d) (hlink : Jvm.Cond.classLink own index nm ∈ lw_all) (hok : ∀ a, r = some a → ∃ K, hIs h a K ∧ (K, nm) ∈ ncL) (hdg : decode cc pc = .ok (.instanceof index, 3))
    (k : GH X G h Q0 (pc + 3) lv (.int 0 :: st)) : GH X G h Q0 pc lv (va_rf r :: st) := by
  intro H locs ls hP hS hl
  cases r with
  | none => exact lv_instN C.1.1 C.1.2.1 hdg (k H locs ls hP hS hl)
  | some a =>
    obtain ⟨K, hi, hw⟩ := hok a rfl
    exact va_instNo C.1.1 C.1.2.1 C.1.2.2.2.1 (C.1.2.2.2.2.1 _ hlink) (C.2.1.2.2.2.2.1 _ hw) (hi.recv C hP hS) hdg (k H locs ls hP hS hl)
/-! statics, the Integers' cache -/
theorem gh_gets {v : Value} {D n ty ref : String} {index : Nat} (C : HC X G own cc d) (hZ : va_Z D n ty v (ev_A X) (ev_s X) (ev_s X).heap) (hlink : Jvm.Cond.fieldLink own index ref n ty ∈ lw_all) (hsm : ∀ x, (ev_s X).fieldFound? D n ty = some x → (ev_s X).fieldFound? ref n ty = some x) (hdg : decode cc pc = .ok (.getstatic index, 3))
    (k : GH X G h Q0 (pc + 3) lv (v :: st)) : GH X G h Q0 pc lv st :=
  fun H locs ls hP hS hl => va_gets C.1.1 C.1.2.1 hZ hS C.1.2.2.2.1 (C.1.2.2.2.2.1 _ hlink) hsm hdg (k H locs ls hP hS hl)
theorem gh_getInt {a index : Nat} {ref : String} (C : HC X G own cc d) (ht : hT h a = 300) (hlink : Jvm.Cond.fieldLink own index ref "value" "I" ∈ lw_all) (hsm : ∀ x, (ev_s X).fieldFound? "java/lang/Integer" "value" "I" = some x → (ev_s X).fieldFound? ref "value" "I" = some x) (hdg : decode cc pc = .ok (.getfield index, 3))
    (k : GH X G h Q0 (pc + 3) lv (.int (hI h fINT a) :: st)) : GH X G h Q0 pc lv (.ref a :: st) := by
  intro H locs ls hP hS hl
  obtain ⟨k0, hk0, rfl, e⟩ := hP.1.2.2.2.2.1 a ht
  rw [e] at k
  exact va_getX C.1.1 C.1.2.1 C.2.2.1.1.2 hk0 hS C.1.2.2.2.1 (C.1.2.2.2.2.1 _ hlink) hsm hdg (k H locs ls hP hS hl)
/-! array copies -/
def sCpy (h : HS) (a a0 sp dp n : Nat) : HS := (h.1, h.2.1, h.2.2.1, h.2.2.2.1, h.2.2.2.2.1, (fun b => if b = a then va_cpy (hB h a0) (hB h a) sp dp n else hB h b), h.2.2.2.2.2.2)
theorem hB_cpy (h : HS) (a a0 sp dp n b i : Nat) : hB (sCpy h a a0 sp dp n) b i = if b = a then va_cpy (hB h a0) (hB h a) sp dp n i else hB h b i := by
  show (if b = a then va_cpy (hB h a0) (hB h a) sp dp n else hB h b) i = _
  split <;> rfl
theorem gh_copy {a a0 t t0 index : Nat} {E : String} {sp dp n : Int32} (C : HC X G own cc d) (hlink : Jvm.Cond.methodLink own index arraycopyName ∈ lw_all) (hnat : Jvm.Cond.native arraycopyName ∈ lw_all) (hstat : Jvm.Cond.static arraycopyName ∈ lw_all) (hini : Jvm.Cond.initialized "java/lang/System" ∈ lw_all)
    (ht0 : hT h a0 = t) (ht : hT h a = t) (h1 : t ∈ tyT) (hgt : 103 < t) (hty : (tysL G)[t0]? = some (gAr G t, .object E)) (g1 : ¬ sp < 0) (g2 : ¬ dp < 0) (g3 : ¬ n < 0) (g4 : sp.toNatClampNeg + n.toNatClampNeg ≤ hN h a0) (g5 : dp.toNatClampNeg + n.toNatClampNeg ≤ hN h a)
    (hel : ∀ i : Nat, i < n.toNatClampNeg → ∀ y : Nat, hB h a0 (sp.toNatClampNeg + i) = some y → hAny X E h y) (hd : 1 ≤ d) (hc : (st.map fun v => v.category).sum ≤ 8) (hdg : decode cc pc = .ok (.invokestatic index, 3))
    (k : GH X G (sCpy h a a0 sp.toNatClampNeg dp.toNatClampNeg n.toNatClampNeg) Q0 (pc + 3) lv st) : GH X G h Q0 pc lv (.int n :: .int dp :: .ref a :: .int sp :: .ref a0 :: st) := by
  have nn : ∀ z : Int32, ¬ z < 0 → z.toInt = (z.toNatClampNeg : Int) := by
    intro z hz
    have hz0 : (0 : Int) ≤ z.toInt := by
      have := Int32.not_lt.mp hz
      simpa using Int32.le_iff_toInt_le.mp this
    show z.toInt = ((z.toInt.toNat : Nat) : Int)
    omega
  intro H locs ls hP hS hl T hTT Z
  have hAa : ev_A X a := hP.2.1 a (Or.inl (hE_arr ht h1))
  have hc0 := hP.at ht0 h1
  have hc1 := hP.at ht h1
  rw [if_neg (by omega)] at hc0 hc1
  have hc0 : H[a0]? = some (vp_cell (gAr G t) (hN h a0, .inr (.inr (.inr (.inr (hB h a0)))))) := hc0
  have hc1 : H[a]? = some (vp_cell (gAr G t) (hN h a, .inr (.inr (.inr (.inr (hB h a)))))) := hc1
  obtain ⟨-, k0, hk0, cm0, hkk0⟩ := (C.2.1.1.2 t0 _ hty).1 (hN h a0) (fun j => va_rf (hB h a0 j))
  obtain ⟨-, k1, hk1, cm1, hkk1⟩ := (C.2.1.1.2 t0 _ hty).1 (hN h a) (fun j => va_rf (hB h a j))
  obtain ⟨vm', X', step⟩ := Z.arraycopy C.1.1 C.1.2.2.2.1 (C.1.2.2.2.2.1 _ hlink) (C.1.2.2.2.2.1 _ hnat) (C.1.2.2.2.2.1 _ hstat) (C.1.2.2.2.2.1 _ hini) (src := a0) (dst := a) (cs := vp_cell (gAr G t) (hN h a0, .inr (.inr (.inr (.inr (hB h a0)))))) (cd := vp_cell (gAr G t) (hN h a, .inr (.inr (.inr (.inr (hB h a)))))) (srcPos := sp) (destPos := dp) (n := n) (by rw [hTT]; exact hc0) (by rw [hTT]; exact hc1)
    (fun _ h => by cases h) (fun _ h => by cases h) (fun h => by cases h) (fun h => by cases h) hk0 hk1 hkk0 hkk1 rfl g1 g2 g3
    (by rw [nn sp g1, nn n g3]; show ¬ _ > ((arrV (gAr G t) (hN h a0) (fun j => va_rf (hB h a0 j))).slots.size : Int); rw [arrV_size]; omega)
    (by rw [nn dp g2, nn n g3]; show ¬ _ > ((arrV (gAr G t) (hN h a) (fun j => va_rf (hB h a j))).slots.size : Int); rw [arrV_size]; omega)
    (fun vm₁ hal i hi => by
      have e : (vp_cell (gAr G t) (hN h a0, .inr (.inr (.inr (.inr (hB h a0)))))).slots.getD (sp.toNatClampNeg + i) .null = va_rf (hB h a0 (sp.toNatClampNeg + i)) := by
        show (arrV (gAr G t) (hN h a0) (fun j => va_rf (hB h a0 j))).slots.getD _ _ = _
        rw [Array.getD_eq_getD_getElem?, arrV_read _ _ (by omega)]
        rfl
      rw [e]
      cases hy : hB h a0 (sp.toNatClampNeg + i) with
      | none => exact ⟨rfl, trivial⟩
      | some y =>
        obtain ⟨cellV, q1, q2, ⟨kC, hkC⟩, hasg⟩ := (hel i hi y hy).any C hP
        obtain ⟨kA, comp, r1, r2, r3, -⟩ := (C.2.1.1.2 t0 _ hty).2
        cases hk1.symm.trans r1
        cases hkk1.symm.trans r2
        obtain ⟨kE, hkE, -⟩ := Vm.findClass_spec r3
        obtain ⟨kC', hkC', -⟩ := hal.2.2 _ _ hkC
        obtain ⟨kE', hkE', -⟩ := hal.2.2 _ _ hkE
        refine ⟨rfl, cellV, (show T.heap[y]? = some cellV by rw [hTT]; exact q1), (fun q h => by rw [h] at q2; cases q2), ⟨kC', hkC'⟩, ?_, ?_⟩
        · exact ⟨kE', hkE'⟩
        · show vm₁.assignable _ _ = true
          rw [hal.assignable]
          exact hasg _ r3)
    (g := F0 (ev_m X) pc ls (.int n :: .int dp :: .ref a :: .int sp :: .ref a0 :: st)) rfl (by rw [hl.1]; exact C.1.2.2.1.symm) (rest := st) rfl (by rw [C.1.2.1]; exact hdg) (by rw [C.2.2.2.1]; exact hd) (by
      show 2 * 0 + _ + _ ≤ _
      rw [C.2.2.2.1]
      have : nativeFrameWords "java/lang/System" "arraycopy" 5 ≤ 9000 := by decide +kernel
      dsimp only [hrm]
      omega)
  have e1 : copied (vp_cell (gAr G t) (hN h a0, .inr (.inr (.inr (.inr (hB h a0)))))) (vp_cell (gAr G t) (hN h a, .inr (.inr (.inr (.inr (hB h a)))))) sp dp n = vp_cell (gAr G t) (hN h a, .inr (.inr (.inr (.inr (va_cpy (hB h a0) (hB h a) sp.toNatClampNeg dp.toNatClampNeg n.toNatClampNeg))))) := by
    rw [vp_cell_q, vp_cell_q, vp_cell_q]
    exact va_copied (fun z => va_rf z) _ _ _ _ g4
  rw [e1] at X' step
  have hlt : a < H.size := (Array.getElem?_eq_some_iff.mp hc1).1
  have hheap : ((T.setVm vm').setCell a (vp_cell (gAr G t) (hN h a, .inr (.inr (.inr (.inr (va_cpy (hB h a0) (hB h a) sp.toNatClampNeg dp.toNatClampNeg n.toNatClampNeg))))))).heap = H.setIfInBounds a (vp_cell (gAr G t) (hN h a, .inr (.inr (.inr (.inr (va_cpy (hB h a0) (hB h a) sp.toNatClampNeg dp.toNatClampNeg n.toNatClampNeg)))))) := by rw [← hTT]; rfl
  have oq : ∀ q : Nat, q ≠ a → (H.setIfInBounds a (vp_cell (gAr G t) (hN h a, .inr (.inr (.inr (.inr (va_cpy (hB h a0) (hB h a) sp.toNatClampNeg dp.toNatClampNeg n.toNatClampNeg)))))))[q]? = H[q]? := fun q hq => by simp [Array.getElem?_setIfInBounds, Ne.symm hq]
  have hP' : RP X G (sCpy h a a0 sp.toNatClampNeg dp.toNatClampNeg n.toNatClampNeg) (H.setIfInBounds a (vp_cell (gAr G t) (hN h a, .inr (.inr (.inr (.inr (va_cpy (hB h a0) (hB h a) sp.toNatClampNeg dp.toNatClampNeg n.toNatClampNeg))))))) := by
    refine hP.arr ht h1 rfl rfl rfl rfl rfl rfl (fun b e => ?_) ?_ (by simp) oq
    · have h3 : hB (sCpy h a a0 sp.toNatClampNeg dp.toNatClampNeg n.toNatClampNeg) b = hB h b := funext fun i => by rw [hB_cpy, if_neg e]
      show (if hT h b ≤ 26 then _ else Sum.inl (gAr G (hT h b), (hN h b, if hT h b ≤ 103 then _ else Sum.inr (Sum.inr (Sum.inr (Sum.inr (hB (sCpy h a a0 sp.toNatClampNeg dp.toNatClampNeg n.toNatClampNeg) b))))))) = _
      rw [h3]
      rfl
    · have ht2 : hT (sCpy h a a0 sp.toNatClampNeg dp.toNatClampNeg n.toNatClampNeg) a = t := ht
      rw [hcell_arr ht2 (by omega), if_neg (by omega)]
      show (H.setIfInBounds a _)[a]? = some (vp_cell _ _)
      have h3 : hB (sCpy h a a0 sp.toNatClampNeg dp.toNatClampNeg n.toNatClampNeg) a = va_cpy (hB h a0) (hB h a) sp.toNatClampNeg dp.toNatClampNeg n.toNatClampNeg := funext fun i => by rw [hB_cpy, if_pos rfl]
      rw [h3]
      simp [Array.getElem?_setIfInBounds, hlt]
      rfl
  obtain ⟨t9, a1, b1⟩ := k _ _ ls hP' ⟨by simp; exact hS.1, fun q z1 z2 => by
      rw [oq q (fun e => z2 (by rw [e]; exact hAa))]
      exact hS.2.1 q z1 z2, fun q hq => by
      rcases List.mem_append.mp hq with h | h
      · exact hS.2.2 q h
      · obtain ⟨z, -, hz⟩ := List.mem_map.mp h
        rw [← hz]
        exact hAa⟩ hl _ hheap X'
  exact ⟨t9, step t9 a1, b1⟩
end GMS
