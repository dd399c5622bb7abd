/-! ROWS: Object's constructor, Math, a body's start; what the machine throws by itself; exceptions' own constructors -/
def hLm (G : GG) (lm : Nat × Nat) : Prop := lm.1 = gCC G ∧ lm.2 = gSS G
/-- new cells that nobody looks at -/
def hVm (h h2 : HS) : Prop := ∃ z l, hZ h ≤ z ∧ z ≤ hZ h + 3 ∧ hL h ≤ l ∧ l ≤ hL h + 222 ∧ h2 = hSz h z l
section GNS
variable {X : Ev} {G : GG} {own : String} {cc : ByteArray} {d pc : Nat} {lv : List (Nat × Value)} {st : List Value} {h h0 : HS} {Q : QT} {E : ET} {Q0 : State → Prop}
theorem gh_obj {b : Nat} {index : Nat} (C : HC X G own cc d) (hd : 1 ≤ d) (hlink : Jvm.Cond.methodLink own index Lib.objectInit ∈ lw_all) (hc : (st.map fun v => v.category).sum ≤ 8) (hdg : decode cc pc = .ok (.invokespecial index, 3))
    (k : GH X G h Q0 (pc + 3) lv st) : GH X G h Q0 pc lv (.ref b :: st) := by
  intro H locs ls hP hS hl
  refine W.objInit C.1.1 C.1.2.1 C.1.2.2.2.1 (C.1.2.2.2.2.1 _ hlink) (C.1.2.2.2.2.1 _ q191) (C.1.2.2.2.2.1 _ q192) rfl (by rw [C.1.2.2.1]; exact hl.1) rfl hdg (by rw [C.2.2.2.1]; exact hd) (by rw [C.2.2.2.1]; have := lv_room (m := ev_m X) (pc := pc) (ls := ls) (rest := Value.ref b :: st) hc; dsimp only [hrm]; omega) ?_
  exact k H locs ls hP hS hl
theorem gh_mmin {x y : Int32} {index : Nat} (C : HC X G own cc d) (hd : 1 ≤ d) (hlink : Jvm.Cond.methodLink own index Lib.Math.min.name ∈ lw_all) (hc : (st.map fun v => v.category).sum ≤ 8) (hdg : decode cc pc = .ok (.invokestatic index, 3))
    (k : GH X G h Q0 (pc + 3) lv (.int (if y < x then y else x) :: st)) : GH X G h Q0 pc lv (.int y :: .int x :: st) := by
  intro H locs ls hP hS hl
  have h1 := hP.1.1.2.2.1
  have h2 := hP.1.1.2.2.2
  exact va_mmin C.1.1 C.1.2.1 (by rw [hl.1]; exact C.1.2.2.1) C.1.2.2.2.1 (C.1.2.2.2.2.1 _ hlink) (C.1.2.2.2.2.1 _ q457) (C.1.2.2.2.2.1 _ q151) (C.1.2.2.2.2.1 _ q458) (by rw [C.2.2.2.1]; exact hd) (by rw [C.2.2.2.1]; dsimp only [hrm]; omega) (by rw [C.2.2.2.1]; dsimp only [hrm]; omega) (by rw [C.2.2.2.1]; dsimp only [hrm]; omega) hdg (k H locs ls hP hS hl)
theorem gh_mmax {x y : Int32} {index : Nat} (C : HC X G own cc d) (hd : 1 ≤ d) (hlink : Jvm.Cond.methodLink own index Lib.Math.max.name ∈ lw_all) (hc : (st.map fun v => v.category).sum ≤ 8) (hdg : decode cc pc = .ok (.invokestatic index, 3))
    (k : GH X G h Q0 (pc + 3) lv (.int (if x < y then y else x) :: st)) : GH X G h Q0 pc lv (.int y :: .int x :: st) := by
  intro H locs ls hP hS hl
  have h1 := hP.1.1.2.2.1
  have h2 := hP.1.1.2.2.2
  exact va_mmax C.1.1 C.1.2.1 (by rw [hl.1]; exact C.1.2.2.1) C.1.2.2.2.1 (C.1.2.2.2.2.1 _ hlink) (C.1.2.2.2.2.1 _ q2099) (C.1.2.2.2.2.1 _ q151) (C.1.2.2.2.2.1 _ q2100) (by rw [C.2.2.2.1]; exact hd) (by rw [C.2.2.2.1]; dsimp only [hrm]; omega) (by rw [C.2.2.2.1]; dsimp only [hrm]; omega) (by rw [C.2.2.2.1]; dsimp only [hrm]; omega) hdg (k H locs ls hP hS hl)
end GNS
theorem gh_met {l : Launch} {G : GG} {y : MethodName} {bytes : ByteArray} {maxL d : Nat} {ret : Option FieldType} {own : String} {args : List Value} {h : HS} {Q : QT} {E : ET} (hy : y.cls = own) (hp : plainName own = true) (hst : l.stackTraces = false) (hlen : (lg_sl args).length ≤ maxL)
    (body : ∀ X : Ev, ev_l X = l → ev_n X = maxL → (ev_h X).sig.returnType = ret → ((ev_h X).name = y.name ∧ (ev_s X).methodNamed? y = some (ev_m X)) → (ev_c X).exceptionTable.toList = [] → ∀ h0 : HS, h0 = h → HC X G own bytes d → HS0 X h0 → GH X G h (hQ X G h0 Q E) 0 (lv_args 0 args) []) : HMet l G y (ws_ y bytes maxL ret) d args h Q E := by
  refine vx_ofW (cc := bytes) (maxL := maxL) (ret := ret) (by rw [hy]; exact hp) rfl ?_
  intro p e s m as below meth c s₁ B hml hno hv
  obtain ⟨rfl, hR, hK, hSG⟩ := hv
  have hts := atoms_spec (ws := ws_ y bytes maxL ret) B.pre
  have hts : ∀ w ∈ lw_all, w.before args.toArray s = true := fun w h => hts w (List.mem_cons_of_mem _ h)
  have hown : s.vm.findClass own = some m.cls := by rw [← hy]; exact findClass_of_methodNamed B.named
  have hl := lv_entry args (n := maxL) hlen
  rw [lg_entry_eq]
  have hnil : c.exceptionTable.toList = [] := by
    cases hc : c.exceptionTable.toList with
    | nil => rfl
    | cons x xs => exact (hno x (by rw [hc]; exact List.mem_cons_self)).elim
  have hnm := (name_of_methodNamed B.named B.method).1
  have hP : RP (p, l, e, hrm G d (hZ h) (hL h), s, m, args.toArray, below, meth, c, hD h, maxL) G h s.heap := ⟨hR, fun q hq => hq, by rw [hR.1.1]; exact Nat.le_refl _, by rw [hR.1.2.1]; exact Nat.le_refl _⟩
  have k := body (p, l, e, hrm G d (hZ h) (hL h), s, m, args.toArray, below, meth, c, hD h, maxL) rfl rfl B.returns ⟨hnm, B.named⟩ hnil h rfl ⟨⟨B.exec, B.bytes, hml, hown, hts, B.notSynchronized⟩, hK, hSG, by show hrm G d (hZ h) (hL h) = hrm G d s.heap.size (slS s.heap); rw [hR.1.1, hR.1.2.1], fun q hq => Or.inr (by rw [← hR.1.1]; exact hq), hst⟩ ⟨rfl, hR.1.1, hR.1.2.1⟩ s.heap [] _ hP va_S.rf hl
  exact W.widen (Nat.zero_le _) (Nat.zero_le _) k
theorem gh_metW {l : Launch} {G : GG} {y : MethodName} {bytes : ByteArray} {maxL d : Nat} {ret : Option FieldType} {hh : List (Nat × Nat × Nat × Nat)} {own : String} {args : List Value} {h : HS} {Q : QT} {E : ET} (hy : y.cls = own) (hp : plainName own = true) (hst : l.stackTraces = false) (hlen : (lg_sl args).length ≤ maxL)
    (body : ∀ X : Ev, ev_l X = l → ev_n X = maxL → (ev_h X).sig.returnType = ret → ((ev_h X).name = y.name ∧ (ev_s X).methodNamed? y = some (ev_m X)) → (ev_c X).exceptionTable.toList = tableOf hh → ∀ h0 : HS, h0 = h → HC X G own bytes d → HS0 X h0 → GH X G h (hQ X G h0 Q E) 0 (lv_args 0 args) []) : HMet l G y (wsW_ y bytes maxL ret hh) d args h Q E := by
  refine vx_ofWH (cc := bytes) (maxL := maxL) (ret := ret) (hh := hh) (by rw [hy]; exact hp) rfl ?_
  intro p e s m as below meth c s₁ B hml hv
  obtain ⟨rfl, hR, hK, hSG⟩ := hv
  have hts := atoms_spec (ws := wsW_ y bytes maxL ret hh) B.pre
  have hw0 := hts _ List.mem_cons_self
  have hts : ∀ w ∈ lw_all, w.before args.toArray s = true := fun w h => hts w (List.mem_cons_of_mem _ h)
  have hown : s.vm.findClass own = some m.cls := by rw [← hy]; exact findClass_of_methodNamed B.named
  have hl := lv_entry args (n := maxL) hlen
  rw [lg_entry_eq]
  have hnm := (name_of_methodNamed B.named B.method).1
  have hP : RP (p, l, e, hrm G d (hZ h) (hL h), s, m, args.toArray, below, meth, c, hD h, maxL) G h s.heap := ⟨hR, fun q hq => hq, by rw [hR.1.1]; exact Nat.le_refl _, by rw [hR.1.2.1]; exact Nat.le_refl _⟩
  have k := body (p, l, e, hrm G d (hZ h) (hL h), s, m, args.toArray, below, meth, c, hD h, maxL) rfl rfl B.returns ⟨hnm, B.named⟩ (vx_table (x := y) B hw0) h rfl ⟨⟨B.exec, B.bytes, hml, hown, hts, B.notSynchronized⟩, hK, hSG, by show hrm G d (hZ h) (hL h) = hrm G d s.heap.size (slS s.heap); rw [hR.1.1, hR.1.2.1], fun q hq => Or.inr (by rw [← hR.1.1]; exact hq), hst⟩ ⟨rfl, hR.1.1, hR.1.2.1⟩ s.heap [] _ hP va_S.rf hl
  exact W.widen (Nat.zero_le _) (Nat.zero_le _) k
