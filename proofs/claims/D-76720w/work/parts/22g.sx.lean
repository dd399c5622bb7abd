/-! THE CONSTRUCTORS above Refused and Fault -/
section SXR
variable {p : Program} {l : Launch} {e : Env} {R : Room} {s : State} {m : MethodId} {args : Array Value} {below : List Frame} {meth : Method} {c : Code} {locs : List Loc} {cells slots : Nat}
theorem vx_back9L {T S : State} {R' : Room} {k n : Nat} {L : List Loc} (X : Stand p l e R s m args below meth c T locs cells slots) (Y : Stand p l e R' ((T.setVm s.vm).setFrames (.invoking m args :: below)) m args below meth c T [] 0 0) (Z : Stand p l e R' ((T.setVm s.vm).setFrames (.invoking m args :: below)) m args below meth c S L k n) :
    Stand p l e R s m args below meth c S (locs ++ L) (cells + k) (slots + n) := by
  have hW0 : s.WarmedH ((T.setVm s.vm).setFrames (.invoking m args :: below)).vm := State.WarmedH.refl s
  refine { admits := X.admits, cas := X.cas, clock := X.clock, frames := X.frames, room := X.room, hears := X.hears, method := X.method, code := X.code, here := Z.here, tail := Z.tail, warmed := State.WarmedH.trans hW0 Z.warmed, limits := Z.limits.trans (Y.limits.symm.trans X.limits), bytes := Z.bytes.trans (Y.bytes.symm.trans X.bytes), same := ?_ }
  obtain ⟨e1, e2⟩ := Z.same
  rw [State.setFrames_setFrames] at e1
  have h2 : (T.setVm s.vm).sameButNew (S.setVm s.vm) L k n := ⟨e1, e2⟩
  exact X.same.trans h2
end SXR
theorem gh_sup {X : Ev} {G : GG} {own : String} {cc : ByteArray} {d pc : Nat} {lv : List (Nat × Value)} {rest : List Value} {h : HS} {Q0 : State → Prop} {a ci ic n : Nat} {cls host : String} {names : List String} {T0 : u_T} {f0 : Nat} (C : HC X G own cc d) (hci : ci = 15 ∨ ci = 16) (hvc : vwCl[ci]? = some (own, T0, 1)) (hcF : cF ci = [f0])
    (hin : ∀ w ∈ u_ws own T0 1, w ∈ lw_all) {ty0 : Nat → FieldType} (hty : ∀ k, k < 1 → parseFieldDescriptor (T0 k).2.2.1 = some (ty0 k)) (hnn : (T0 0).2.1 ≠ "cause" ∧ (T0 0).2.1 ≠ "stackTrace" ∧ (T0 0).2.1 ≠ "suppressedExceptions") (ht : hT h a = ci + 1) (hfr : hI h 98 a = 0)
    (hcls : Bundle.fit cls = true) (hnames : ∀ n ∈ names, Bundle.fit n = true) (hat : ∀ w ∈ (supAtoms own cls names n).filter vx_no, w.before (ev_a X) (ev_s X) = true) (hnl : Jvm.Cond.methodLinkNest own ic (Bundle.init0 cls) host ∈ lw_tbl) (hgood : ∀ w ∈ (supAtoms own cls names n).filter vx_no, vx_ot w = true)
    (hd : names.length + 3 < d) (hd2 : 13 * (names.length + 1) + 41 + 8 ≤ 10304) (hc : (rest.map fun v => v.category).sum ≤ 8) (hdg : decode cc pc = .ok (.invokespecial ic, 3)) (kk : ∀ h2 : HS, h2 = sI h 98 a 1 → GH X G h2 Q0 (pc + 3) lv rest) : GH X G h Q0 pc lv (.ref a :: rest) := by
  intro H locs ls hP hS hl T hTh Z
  have htr : (ev_e X).platform.stackTraces = false := (show (ev_e X).platform.stackTraces = (ev_l X).stackTraces by rw [Z.admits.platform]).trans C.2.2.2.2.2
  have hr2 := hroom2 (h := h) C hP
  have Y := vx_rebase Z (R' := { frames := (ev_R X).frames, locals := (ev_R X).locals, cells := 0, slots := 0 }) (Nat.le_refl _) (Nat.le_refl _) (by show hZ h - (ev_s X).heap.size + 0 ≤ _; omega) (by show hL h - slS (ev_s X).heap + 0 ≤ _; omega)
  obtain ⟨s', hA'⟩ : ∃ z, z = (T.setVm (ev_s X).vm).setFrames (.invoking (ev_m X) (ev_a X) :: ev_b X) := ⟨_, rfl⟩
  rw [← hA'] at Y
  have hvm : s'.vm = (ev_s X).vm := by rw [hA']; rfl
  have hhp : s'.heap = T.heap := by rw [hA']; rfl
  have hW0 : (ev_s X).WarmedH s'.vm := by rw [hvm]; exact State.WarmedH.refl _
  have hat' : ∀ w ∈ (supAtoms own cls names n).filter vx_no, w.before (ev_a X) s' = true := fun w hw => vx_ot_at hW0 hvm.symm (hgood w hw) (hat w hw)
  have hSH : va_S (ev_A X) (ev_s X).heap T.heap locs := by rw [hTh]; exact hS
  have hU' : vx_Zq Bundle.tN "UNASSIGNED_STACK" Bundle.steD (ev_A X) s' s'.heap := by rw [hhp]; exact vx_Zq.moved hW0.alike (C.2.2.1.2.2.2.2.1.kept hSH.2.1)
  have hN' : vx_Zq Bundle.tN "SUPPRESSED_SENTINEL" Bundle.listD (ev_A X) s' s'.heap := by rw [hhp]; exact vx_Zq.moved hW0.alike (C.2.2.1.2.2.2.2.2.1.kept hSH.2.1)
  have h9 : ∀ w ∈ supAtoms own cls names n, w.before (ev_a X) s' = true := vx_own hat' (vx_isRefq hU'.1) (vx_isRefq hN'.1) hU'.2.word hN'.2.word
  have hKn := u_Kn_moved (U := s') hW0.alike (C.2.1.1.1 ci _ hvc)
  obtain ⟨hSl, hfX, kX, hkX, -⟩ := hKn
  have hkX0 : (ev_s X).vm.classes[(gD G).1 ci]? = some kX := by rw [← hvm]; exact hkX
  have hgF := C.2.1.2.2.2.2.2.2.2.2 ci hci kX hkX0
  have hci25 : ci < 26 := by omega
  have hfresh := hP.1.2.2.2.2.2.2.2.2 a (by omega) hfr
  rw [ht, Nat.add_sub_cancel, hgF] at hfresh
  have hcell : T.heap[a]? = some (freshCell ((gD G).1 ci) kX) := by rw [hTh]; exact hfresh
  have hown' : s'.vm.findClass own = some (ev_m X).cls := by rw [hvm]; exact C.1.2.2.2.1
  obtain ⟨V, ce, L, Z2, hL, hlt, hVh, hcl9, hvm9, hsz, hsl, st⟩ := vx_supMade Y C.1.1 htr (own := own) (cls := cls) (names := names) (ic := ic) (n := n) hown' hcls hnames h9 (va_Nw.use rfl (va_Nw.warmM hW0 (C.2.1.2.1 _ hnl rfl))) (fun x hx => nomatch hx) hfX hkX hcell (g := F0 (ev_m X) pc ls (.ref a :: rest)) rfl (by rw [C.1.2.2.1]; exact hl.1) (rest := rest) rfl
    (by rw [C.1.2.1]; exact hdg) (by show _ < (ev_R X).frames; rw [C.2.2.2.1]; exact hd) (by show 2 * (F0 (ev_m X) pc ls (.ref a :: rest)).monitorRoom + _ + _ ≤ (ev_R X).locals; rw [C.2.2.2.1]; have hz := lv_room (m := ev_m X) (pc := pc) (ls := ls) (rest := rest) hc; have hz2 : (F0 (ev_m X) pc ls (.ref a :: rest)).monitorRoom = (F0 (ev_m X) pc ls rest).monitorRoom := rfl; rw [hz2]; show _ ≤ 64 * d + 10304; omega)
  have hidx : ce.slots[(gD G).2 ci 0]? = (freshCell ((gD G).1 ci) kX).slots[(gD G).2 ci 0]? := by
    obtain ⟨cf, kf, fi, fd, hi, e0⟩ := hSl 0 Nat.zero_lt_one
    have hnm := (State.fieldFound?_type hi (hty 0 (by decide))).1
    have hl0 := u_lays (args := ev_a X) (s := s') (C := own) (T := T0) (N := 1) (ws := lw_all) (fun w hw => word_at hW0 (lw_self w hw).2 (C.1.2.2.2.2.1 w hw)) hin (k := 0) (by decide)
    refine hsl _ fun n9 d9 c9 k9 j9 f9 hm hf => ?_
    rw [← e0]
    simp only [List.mem_cons, List.not_mem_nil, or_false, Prod.mk.injEq] at hm
    rcases hm with ⟨e1, e2⟩ | ⟨e1, e2⟩ | ⟨e1, e2⟩
    · subst e1; subst e2
      exact u_apart (Or.inl (h9 (.lays own Bundle.tN "cause" "Ljava/lang/Throwable;") (by simp [supAtoms]))) hl0 hf hi (by rw [hnm, (State.fieldFound?_type (t := .object "java/lang/Throwable") hf (by decide +kernel)).1]; exact fun z => hnn.1 z.symm)
    · subst e1; subst e2
      exact u_apart (Or.inl (h9 (.lays own Bundle.tN "stackTrace" Bundle.steD) (by simp [supAtoms]))) hl0 hf hi (by rw [hnm, (State.fieldFound?_type (t := .array (.object "java/lang/StackTraceElement")) hf (by decide +kernel)).1]; exact fun z => hnn.2.1 z.symm)
    · subst e1; subst e2
      exact u_apart (Or.inl (h9 (.lays own Bundle.tN "suppressedExceptions" Bundle.listD) (by simp [supAtoms]))) hl0 hf hi (by rw [hnm, (State.fieldFound?_type (t := .object "java/util/List") hf (by decide +kernel)).1]; exact fun z => hnn.2.2 z.symm)
  rw [hA'] at Y Z2
  have Z5 := vx_back9L Z Y Z2
  have e1 : (V.setCell a ce).heap[a]? = some ce := heapAt_setCell_self (s := V) ce hlt
  have e3 : ∀ q : Nat, q ≠ a → (V.setCell a ce).heap[q]? = H[q]? := fun q hq => by
    rw [← hTh, ← hVh]
    exact heapAt_setCell_ne (s := V) ce (fun z => hq z.symm)
  have e2 : (V.setCell a ce).heap.size = H.size := by
    rw [← hTh, ← hVh]
    show (V.heap.setIfInBounds a ce).size = _
    rw [Array.size_setIfInBounds]
  have hP1 : RP X G (sI h 98 a 1) (V.setCell a ce).heap := by
    refine ⟨hP.1.put (hE_obj ht hci25) e2 (slS_set e2 hfresh e1 hsz e3) e3 rfl rfl rfl ?_ (fun b hb => hcell_sI hb) (fun f b hb => hval_sI (fun z => hb z.2)) (fun g b hb => by rw [hI_sI, if_neg (fun z => hb z.2)]) (fun _ => by rw [hI_sI, if_pos ⟨rfl, rfl⟩]; decide), hP.2⟩
    have ht' : hT (sI h 98 a 1) a = ci + 1 := ht
    rw [hcell_obj ht' hci25]
    refine ⟨_, hvc, ce, e1, hcl9, hvm9, fun k hk => ?_⟩
    have hk0 : k = 0 := Nat.lt_one_iff.mp hk
    subst hk0
    have old := hP.1.2.2.1 a (hE_obj ht hci25)
    rw [hcell_obj ht hci25] at old
    obtain ⟨r, h1, cell0, q1, q2, q3, q4⟩ := old
    have hr : r = (own, T0, 1) := Option.some.inj (h1.symm.trans hvc)
    subst hr
    cases hfresh.symm.trans q1
    rw [hidx, q4 0 Nat.zero_lt_one, hcF]
    have hf0 : f0 ≠ 98 := cF_98 (k := 0) hci25 (by rw [hcF]; rfl)
    show some (hval h f0 a) = some (hval (sI h 98 a 1) f0 a)
    rw [hval_sI (fun z => hf0 z.1)]
  have kk2 := kk _ rfl (V.setCell a ce).heap (locs ++ L) ls hP1 ⟨by rw [e2]; exact hS.1, fun q q1 q2 => (e3 q (fun z => q2 (by rw [z]; exact hP.2.1 a (Or.inl (hE_obj ht hci25))))).trans (hS.2.1 q q1 q2), fun q hq => by
    rcases List.mem_append.mp hq with hq | hq
    · exact hS.2.2 q hq
    · rw [hL q hq]
      exact hP.2.1 a (Or.inl (hE_obj ht hci25))⟩ hl
  obtain ⟨t, a1, b1⟩ := kk2 _ rfl Z5
  exact ⟨t, st _ a1, b1⟩
