/-! LAMBDAS: which method, what is captured, calls of them, their making (printed by tools/lam.py) -/
def lamM (i : Nat) : Nat := match i with | 1 => 159 | 2 => 87 | 3 => 89 | 4 => 187 | 5 => 188 | 6 => 233 | 7 => 86 | 8 => 88 | 9 => 85 | 10 => 158 | 11 => 186 | _ => 1000
def capV (h : HS) (a i : Nat) : List Value := match i with | 2 => [.int (hI h 86 a), .int (hI h 87 a)] | 3 => [va_rf (hR h 88 a), .int (hI h 89 a)] | 6 => [va_rf (hR h 90 a)] | 7 => [.int (hI h 91 a), .int (hI h 92 a), va_rf (hR h 93 a)] | 8 => [va_rf (hR h 94 a)] | 9 => [va_rf (hR h 95 a), va_rf (hR h 96 a)] | 10 => [va_rf (hR h 97 a)] | _ => []
def lamZ (i : Nat) (v : Option Value) : Prop := match i with | 4 => (∃ x, v = some (.int x) ∧ bz x) | 5 => (∃ x, v = some (.int x) ∧ bz x) | _ => v = none
def lamW (h : HS) (a i : Nat) : Prop := match i with | 6 => (∃ b, hR h 90 a = some b ∧ hT h b = 12) | 10 => (∃ b, hR h 97 a = some b ∧ hT h b = 11) | _ => True
def LamsOK (l : Launch) (G : GG) (d : Nat) (cl : CT) : Prop := ∀ (i a : Nat) (As : List Value) (h : HS) (Q : QT) (E : ET), cl (250 + i) (.ref a :: As) h Q E → 1 ≤ i → i ≤ 11 → ∃ (d1 : Nat) (y : MethodName) (ws : List Cond), d = d1 + 1 ∧ mY[lamM i]? = some (y, ws) ∧ lamW h a i ∧ HMet l G y ws d1 (capV h a i ++ As) h (fun v h2 => lamZ i v ∧ Q v h2) (fun _ _ => False)
def dl_Look (cl : CT) (a : Nat) (As : List Value) (h : HS) (Q : QT) (E : ET) : Prop := (∃ (v : Option Nat) (p : Int32) (o : Option Nat), As = [va_rf v, .int p, va_rf o]) ∧ ∃ i, (i ∈ [2, 3, 6, 7, 8, 9, 10] ∧ hT h a = 200 + i ∨ i ∈ [1, 11] ∧ hT h a = 300 + i) ∧ cl (250 + i) (.ref a :: As) h Q E
def dl_Both (cl : CT) (a : Nat) (As : List Value) (h : HS) (Q : QT) (E : ET) : Prop := (∃ (v o : Option Nat), As = [va_rf v, va_rf o]) ∧ ∃ i, i ∈ [4, 5] ∧ hT h a = 300 + i ∧ cl (250 + i) (.ref a :: As) h Q E
theorem lcall_1 {X : Ev} {G : GG} {own : String} {cc : ByteArray} {d d1 pc index count a : Nat} {lv : List (Nat × Value)} {h : HS} {Q0 : State → Prop} {v o : Option Nat} {q : Int32} {rest stk : List Value} {Q1 : QT} (C : HC X G own cc d) (hd : d1 + 2 ≤ d) (ht : hT h a = 301) (hlink : Jvm.Cond.methodLink own index xLook ∈ lw_all)
    (hM : HMet (ev_l X) G yX3_lambda_new_0 (ws_ yX3_lambda_new_0 cX3_lambda_new_0 3 (Option.none : Option Jvm.ClassFile.FieldType)) d1 [va_rf v, .int q, va_rf o] h (fun v h2 => lamZ 1 v ∧ Q1 v h2) (fun _ _ => False)) (hstk : stk = [va_rf v, .int q, va_rf o].reverse ++ .ref a :: rest) (hc : (rest.map fun v => v.category).sum ≤ 8) (hdg : decode cc pc = .ok (.invokeinterface index count, 5))
    (kk : ∀ v h2, Q1 v h2 → GH X G h2 Q0 (pc + 5) lv (v.toList ++ rest)) : GH X G h Q0 pc lv stk := by
  refine gh_run5 (Q1 := fun v h2 => lamZ 1 v ∧ Q1 v h2) (E1 := fun _ _ => False) #[] (fun H locs ls hP hS hl => ?_) (fun v h2 hq => kk v h2 hq.2) (fun q h2 z => z.elim)
  have hfw : LFw X h d 1 a fwB_1 [] #[.val (.ref a), .val (va_rf v), .val (.int q), .val (va_rf o)] 3 [va_rf v, .int q, va_rf o].reverse := by
    intro U s' R' a' below' methk ck cell Y hby hfs hcell hvm hsl target hrest
    refine fw_aload Y C.1.1 hby (k := 1) (r := v) dfw_1_0 rfl ?_
    refine fw_iload Y C.1.1 hby (k := 2) (x := q) dfw_1_1 rfl ?_
    refine fw_aload Y C.1.1 hby (k := 3) (r := o) dfw_1_2 rfl ?_
    exact hrest
  exact lam_run5 (n := 3) (As := [va_rf v, .int q, va_rf o]) (ls0 := #[.val (.ref a), .val (va_rf v), .val (.int q), .val (va_rf o)]) C hd (.head _ : (1, siteWord_1_1) ∈ siteL) LK_1 rfl (by decide) (x := xLook) ⟨rfl, rfl, by decide +kernel⟩ ⟨by decide, by decide⟩ hlink C.2.1.2.2.2.2.2.2.1 hP hS hl.1 (lmCell_300 C hP hS ht (by decide)) rfl (by decide +kernel) hstk hc hdg (fun mk => by cases v <;> cases o <;> rfl) (lam_midS (Bs := [va_rf v, .int q, va_rf o]) C hd hP hS (y := yX3_lambda_new_0) (by decide +kernel) ⟨by decide, by decide⟩ hM q213 q141 q214 (by show _ = some 3; decide +kernel) (by decide) rfl ⟨LK_1.2.2.1.1, LK_1.2.2.1.2.2⟩ dfw_1_3 hfw (Or.inl ⟨rfl, dfw_1_6, fun v h2 hq => hq.1⟩))
theorem lcall_2 {X : Ev} {G : GG} {own : String} {cc : ByteArray} {d d1 pc index count a : Nat} {lv : List (Nat × Value)} {h : HS} {Q0 : State → Prop} {v o : Option Nat} {q : Int32} {rest stk : List Value} {Q1 : QT} (C : HC X G own cc d) (hd : d1 + 2 ≤ d) (ht : hT h a = 202) (hlink : Jvm.Cond.methodLink own index xLook ∈ lw_all)
    (hM : HMet (ev_l X) G yX0_lambda_numberLook_0 (ws_ yX0_lambda_numberLook_0 cX0_lambda_numberLook_0 6 (Option.none : Option Jvm.ClassFile.FieldType)) d1 [.int (hI h 86 a), .int (hI h 87 a), va_rf v, .int q, va_rf o] h (fun v h2 => lamZ 2 v ∧ Q1 v h2) (fun _ _ => False)) (hstk : stk = [va_rf v, .int q, va_rf o].reverse ++ .ref a :: rest) (hc : (rest.map fun v => v.category).sum ≤ 8) (hdg : decode cc pc = .ok (.invokeinterface index count, 5))
    (kk : ∀ v h2, Q1 v h2 → GH X G h2 Q0 (pc + 5) lv (v.toList ++ rest)) : GH X G h Q0 pc lv stk := by
  refine gh_run5 (Q1 := fun v h2 => lamZ 2 v ∧ Q1 v h2) (E1 := fun _ _ => False) #[] (fun H locs ls hP hS hl => ?_) (fun v h2 hq => kk v h2 hq.2) (fun q h2 z => z.elim)
  have hfw : LFw X h d 2 a fwB_2 [16, 18] #[.val (.ref a), .val (va_rf v), .val (.int q), .val (va_rf o)] 11 [.int (hI h 86 a), .int (hI h 87 a), va_rf v, .int q, va_rf o].reverse := by
    intro U s' R' a' below' methk ck cell Y hby hfs hcell hvm hsl target hrest
    obtain ⟨f0, g0, s0, t0⟩ := hfs 0 16 rfl
    refine fw_get Y C.1.1 hby (i := 16) (j := 0) (a := a) (v := .int (hI h 86 a)) dfw_2_0 dfw_2_1 rfl g0 s0 t0 hcell hvm (hsl 0 86 rfl) ?_
    obtain ⟨f1, g1, s1, t1⟩ := hfs 1 18 rfl
    refine fw_get Y C.1.1 hby (i := 18) (j := 1) (a := a) (v := .int (hI h 87 a)) dfw_2_4 dfw_2_5 rfl g1 s1 t1 hcell hvm (hsl 1 87 rfl) ?_
    refine fw_aload Y C.1.1 hby (k := 1) (r := v) dfw_2_8 rfl ?_
    refine fw_iload Y C.1.1 hby (k := 2) (x := q) dfw_2_9 rfl ?_
    refine fw_aload Y C.1.1 hby (k := 3) (r := o) dfw_2_10 rfl ?_
    exact hrest
  exact lam_run5 (n := 3) (As := [va_rf v, .int q, va_rf o]) (ls0 := #[.val (.ref a), .val (va_rf v), .val (.int q), .val (va_rf o)]) C hd (.tail _ (.head _) : (2, siteWord_1_2) ∈ siteL) LK_2 rfl (by decide) (x := xLook) ⟨rfl, rfl, by decide +kernel⟩ ⟨by decide, by decide⟩ hlink C.2.1.2.2.2.2.2.2.1 hP hS hl.1 (lmCell_200 hP.1 ht (by decide)) rfl (by decide +kernel) hstk hc hdg (fun mk => by cases v <;> cases o <;> rfl) (lam_midS (Bs := [.int (hI h 86 a), .int (hI h 87 a), va_rf v, .int q, va_rf o]) C hd hP hS (y := yX0_lambda_numberLook_0) (by decide +kernel) ⟨by decide, by decide⟩ hM q1259 q138 q1260 (by show _ = some 5; decide +kernel) (by decide) rfl ⟨LK_2.2.2.1.1, LK_2.2.2.1.2.2⟩ dfw_2_11 hfw (Or.inl ⟨rfl, dfw_2_14, fun v h2 hq => hq.1⟩))
theorem lcall_3 {X : Ev} {G : GG} {own : String} {cc : ByteArray} {d d1 pc index count a : Nat} {lv : List (Nat × Value)} {h : HS} {Q0 : State → Prop} {v o : Option Nat} {q : Int32} {rest stk : List Value} {Q1 : QT} (C : HC X G own cc d) (hd : d1 + 2 ≤ d) (ht : hT h a = 203) (hlink : Jvm.Cond.methodLink own index xLook ∈ lw_all)
    (hM : HMet (ev_l X) G yX0_lambda_thereLook_1 (ws_ yX0_lambda_thereLook_1 cX0_lambda_thereLook_1 5 (Option.none : Option Jvm.ClassFile.FieldType)) d1 [va_rf (hR h 88 a), .int (hI h 89 a), va_rf v, .int q, va_rf o] h (fun v h2 => lamZ 3 v ∧ Q1 v h2) (fun _ _ => False)) (hstk : stk = [va_rf v, .int q, va_rf o].reverse ++ .ref a :: rest) (hc : (rest.map fun v => v.category).sum ≤ 8) (hdg : decode cc pc = .ok (.invokeinterface index count, 5))
    (kk : ∀ v h2, Q1 v h2 → GH X G h2 Q0 (pc + 5) lv (v.toList ++ rest)) : GH X G h Q0 pc lv stk := by
  refine gh_run5 (Q1 := fun v h2 => lamZ 3 v ∧ Q1 v h2) (E1 := fun _ _ => False) #[] (fun H locs ls hP hS hl => ?_) (fun v h2 hq => kk v h2 hq.2) (fun q h2 z => z.elim)
  have hfw : LFw X h d 3 a fwB_3 [17, 19] #[.val (.ref a), .val (va_rf v), .val (.int q), .val (va_rf o)] 11 [va_rf (hR h 88 a), .int (hI h 89 a), va_rf v, .int q, va_rf o].reverse := by
    intro U s' R' a' below' methk ck cell Y hby hfs hcell hvm hsl target hrest
    obtain ⟨f0, g0, s0, t0⟩ := hfs 0 17 rfl
    refine fw_get Y C.1.1 hby (i := 17) (j := 0) (a := a) (v := va_rf (hR h 88 a)) dfw_3_0 dfw_3_1 rfl g0 s0 t0 hcell hvm (hsl 0 88 rfl) ?_
    obtain ⟨f1, g1, s1, t1⟩ := hfs 1 19 rfl
    refine fw_get Y C.1.1 hby (i := 19) (j := 1) (a := a) (v := .int (hI h 89 a)) dfw_3_4 dfw_3_5 rfl g1 s1 t1 hcell hvm (hsl 1 89 rfl) ?_
    refine fw_aload Y C.1.1 hby (k := 1) (r := v) dfw_3_8 rfl ?_
    refine fw_iload Y C.1.1 hby (k := 2) (x := q) dfw_3_9 rfl ?_
    refine fw_aload Y C.1.1 hby (k := 3) (r := o) dfw_3_10 rfl ?_
    exact hrest
  exact lam_run5 (n := 3) (As := [va_rf v, .int q, va_rf o]) (ls0 := #[.val (.ref a), .val (va_rf v), .val (.int q), .val (va_rf o)]) C hd (.tail _ (.tail _ (.head _)) : (3, siteWord_1_3) ∈ siteL) LK_3 rfl (by decide) (x := xLook) ⟨rfl, rfl, by decide +kernel⟩ ⟨by decide, by decide⟩ hlink C.2.1.2.2.2.2.2.2.1 hP hS hl.1 (lmCell_200 hP.1 ht (by decide)) rfl (by decide +kernel) hstk hc hdg (fun mk => by cases v <;> cases o <;> rfl) (lam_midS (Bs := [va_rf (hR h 88 a), .int (hI h 89 a), va_rf v, .int q, va_rf o]) C hd hP hS (y := yX0_lambda_thereLook_1) (by decide +kernel) ⟨by decide, by decide⟩ hM q1300 q138 q1301 (by show _ = some 5; decide +kernel) (by decide) rfl ⟨LK_3.2.2.1.1, LK_3.2.2.1.2.2⟩ dfw_3_11 hfw (Or.inl ⟨rfl, dfw_3_14, fun v h2 hq => hq.1⟩))
theorem lcall_4 {X : Ev} {G : GG} {own : String} {cc : ByteArray} {d d1 pc index count a : Nat} {lv : List (Nat × Value)} {h : HS} {Q0 : State → Prop} {v o : Option Nat} {rest stk : List Value} {Q1 : QT} (C : HC X G own cc d) (hd : d1 + 2 ≤ d) (ht : hT h a = 304) (hlink : Jvm.Cond.methodLink own index xBoth ∈ lw_all)
    (hM : HMet (ev_l X) G yX9_lambda_record_1 (ws_ yX9_lambda_record_1 cX9_lambda_record_1 2 (Option.some Jvm.ClassFile.FieldType.boolean)) d1 [va_rf v, va_rf o] h (fun v h2 => lamZ 4 v ∧ Q1 v h2) (fun _ _ => False)) (hstk : stk = [va_rf v, va_rf o].reverse ++ .ref a :: rest) (hc : (rest.map fun v => v.category).sum ≤ 8) (hdg : decode cc pc = .ok (.invokeinterface index count, 5))
    (kk : ∀ v h2, Q1 v h2 → GH X G h2 Q0 (pc + 5) lv (v.toList ++ rest)) : GH X G h Q0 pc lv stk := by
  refine gh_run5 (Q1 := fun v h2 => lamZ 4 v ∧ Q1 v h2) (E1 := fun _ _ => False) #[] (fun H locs ls hP hS hl => ?_) (fun v h2 hq => kk v h2 hq.2) (fun q h2 z => z.elim)
  have hfw : LFw X h d 4 a fwB_4 [] #[.val (.ref a), .val (va_rf v), .val (va_rf o)] 2 [va_rf v, va_rf o].reverse := by
    intro U s' R' a' below' methk ck cell Y hby hfs hcell hvm hsl target hrest
    refine fw_aload Y C.1.1 hby (k := 1) (r := v) dfw_4_0 rfl ?_
    refine fw_aload Y C.1.1 hby (k := 2) (r := o) dfw_4_1 rfl ?_
    exact hrest
  exact lam_run5 (n := 2) (As := [va_rf v, va_rf o]) (ls0 := #[.val (.ref a), .val (va_rf v), .val (va_rf o)]) C hd (.tail _ (.tail _ (.tail _ (.head _))) : (4, siteWord_1_4) ∈ siteL) LK_4 rfl (by decide) (x := xBoth) ⟨rfl, rfl, by decide +kernel⟩ ⟨by decide, by decide⟩ hlink C.2.1.2.2.2.2.2.2.2.1 hP hS hl.1 (lmCell_300 C hP hS ht (by decide)) rfl (by decide +kernel) hstk hc hdg (fun mk => by cases v <;> cases o <;> rfl) (lam_midS (Bs := [va_rf v, va_rf o]) C hd hP hS (y := yX9_lambda_record_1) (by decide +kernel) ⟨by decide, by decide⟩ hM q1359 q150 q1360 (by show _ = some 2; decide +kernel) (by decide) rfl ⟨LK_4.2.2.1.1, LK_4.2.2.1.2.2⟩ dfw_4_2 hfw (Or.inr ⟨rfl, dfw_4_5, fun v h2 hq => hq.1⟩))
theorem lcall_5 {X : Ev} {G : GG} {own : String} {cc : ByteArray} {d d1 pc index count a : Nat} {lv : List (Nat × Value)} {h : HS} {Q0 : State → Prop} {v o : Option Nat} {rest stk : List Value} {Q1 : QT} (C : HC X G own cc d) (hd : d1 + 2 ≤ d) (ht : hT h a = 305) (hlink : Jvm.Cond.methodLink own index xBoth ∈ lw_all)
    (hM : HMet (ev_l X) G yX9_lambda_record_2 (ws_ yX9_lambda_record_2 cX9_lambda_record_2 2 (Option.some Jvm.ClassFile.FieldType.boolean)) d1 [va_rf v, va_rf o] h (fun v h2 => lamZ 5 v ∧ Q1 v h2) (fun _ _ => False)) (hstk : stk = [va_rf v, va_rf o].reverse ++ .ref a :: rest) (hc : (rest.map fun v => v.category).sum ≤ 8) (hdg : decode cc pc = .ok (.invokeinterface index count, 5))
    (kk : ∀ v h2, Q1 v h2 → GH X G h2 Q0 (pc + 5) lv (v.toList ++ rest)) : GH X G h Q0 pc lv stk := by
  refine gh_run5 (Q1 := fun v h2 => lamZ 5 v ∧ Q1 v h2) (E1 := fun _ _ => False) #[] (fun H locs ls hP hS hl => ?_) (fun v h2 hq => kk v h2 hq.2) (fun q h2 z => z.elim)
  have hfw : LFw X h d 5 a fwB_5 [] #[.val (.ref a), .val (va_rf v), .val (va_rf o)] 2 [va_rf v, va_rf o].reverse := by
    intro U s' R' a' below' methk ck cell Y hby hfs hcell hvm hsl target hrest
    refine fw_aload Y C.1.1 hby (k := 1) (r := v) dfw_5_0 rfl ?_
    refine fw_aload Y C.1.1 hby (k := 2) (r := o) dfw_5_1 rfl ?_
    exact hrest
  exact lam_run5 (n := 2) (As := [va_rf v, va_rf o]) (ls0 := #[.val (.ref a), .val (va_rf v), .val (va_rf o)]) C hd (.tail _ (.tail _ (.tail _ (.tail _ (.head _)))) : (5, siteWord_1_5) ∈ siteL) LK_5 rfl (by decide) (x := xBoth) ⟨rfl, rfl, by decide +kernel⟩ ⟨by decide, by decide⟩ hlink C.2.1.2.2.2.2.2.2.2.1 hP hS hl.1 (lmCell_300 C hP hS ht (by decide)) rfl (by decide +kernel) hstk hc hdg (fun mk => by cases v <;> cases o <;> rfl) (lam_midS (Bs := [va_rf v, va_rf o]) C hd hP hS (y := yX9_lambda_record_2) (by decide +kernel) ⟨by decide, by decide⟩ hM q1364 q150 q1365 (by show _ = some 2; decide +kernel) (by decide) rfl ⟨LK_5.2.2.1.1, LK_5.2.2.1.2.2⟩ dfw_5_2 hfw (Or.inr ⟨rfl, dfw_5_5, fun v h2 hq => hq.1⟩))
theorem lcall_6 {X : Ev} {G : GG} {own : String} {cc : ByteArray} {d d1 pc index count a : Nat} {lv : List (Nat × Value)} {h : HS} {Q0 : State → Prop} {v o : Option Nat} {q : Int32} {rest stk : List Value} {Q1 : QT} (C : HC X G own cc d) (hd : d1 + 2 ≤ d) (ht : hT h a = 206) {b : Nat} (hb : hR h 90 a = some b) (hbt : hT h b = 12) (hlink : Jvm.Cond.methodLink own index xLook ∈ lw_all)
    (hM : HMet (ev_l X) G yX14_lookAt (ws_ yX14_lookAt cX14_lookAt 8 (Option.none : Option Jvm.ClassFile.FieldType)) d1 (.ref b :: [va_rf v, .int q, va_rf o]) h (fun v h2 => lamZ 6 v ∧ Q1 v h2) (fun _ _ => False)) (hstk : stk = [va_rf v, .int q, va_rf o].reverse ++ .ref a :: rest) (hc : (rest.map fun v => v.category).sum ≤ 8) (hdg : decode cc pc = .ok (.invokeinterface index count, 5))
    (kk : ∀ v h2, Q1 v h2 → GH X G h2 Q0 (pc + 5) lv (v.toList ++ rest)) : GH X G h Q0 pc lv stk := by
  refine gh_run5 (Q1 := fun v h2 => lamZ 6 v ∧ Q1 v h2) (E1 := fun _ _ => False) #[] (fun H locs ls hP hS hl => ?_) (fun v h2 hq => kk v h2 hq.2) (fun q h2 z => z.elim)
  have hfw : LFw X h d 6 a fwB_6 [15] #[.val (.ref a), .val (va_rf v), .val (.int q), .val (va_rf o)] 7 ([va_rf v, .int q, va_rf o].reverse ++ [Value.ref b]) := by
    intro U s' R' a' below' methk ck cell Y hby hfs hcell hvm hsl target hrest
    obtain ⟨f0, g0, s0, t0⟩ := hfs 0 15 rfl
    refine fw_get Y C.1.1 hby (i := 15) (j := 0) (a := a) (v := .ref b) dfw_6_0 dfw_6_1 rfl g0 s0 t0 hcell hvm (by have z := hsl 0 90 rfl; rw [show hval h 90 a = va_rf (hR h 90 a) from rfl, hb] at z; exact z) ?_
    refine fw_aload Y C.1.1 hby (k := 1) (r := v) dfw_6_4 rfl ?_
    refine fw_iload Y C.1.1 hby (k := 2) (x := q) dfw_6_5 rfl ?_
    refine fw_aload Y C.1.1 hby (k := 3) (r := o) dfw_6_6 rfl ?_
    exact hrest
  exact lam_run5 (n := 3) (As := [va_rf v, .int q, va_rf o]) (ls0 := #[.val (.ref a), .val (va_rf v), .val (.int q), .val (va_rf o)]) C hd (.tail _ (.tail _ (.tail _ (.tail _ (.tail _ (.head _))))) : (6, siteWord_1_6) ∈ siteL) LK_6 rfl (by decide) (x := xLook) ⟨rfl, rfl, by decide +kernel⟩ ⟨by decide, by decide⟩ hlink C.2.1.2.2.2.2.2.2.1 hP hS hl.1 (lmCell_200 hP.1 ht (by decide)) rfl (by decide +kernel) hstk hc hdg (fun mk => by cases v <;> cases o <;> rfl) (lam_midV (b := b) (Bs := [va_rf v, .int q, va_rf o]) C hd hP hS (y := yX14_lookAt) (by decide +kernel) ⟨by decide, by decide⟩ hM q1398 qs20 (.of (ci := 11) hbt (by decide) rfl) q174 q1399 (by show _ = some 3; decide +kernel) (by decide) rfl ⟨LK_6.2.2.1.1, LK_6.2.2.1.2.2⟩ dfw_6_7 hfw (Or.inl ⟨rfl, dfw_6_10, fun v h2 hq => hq.1⟩))
theorem lcall_7 {X : Ev} {G : GG} {own : String} {cc : ByteArray} {d d1 pc index count a : Nat} {lv : List (Nat × Value)} {h : HS} {Q0 : State → Prop} {v o : Option Nat} {q : Int32} {rest stk : List Value} {Q1 : QT} (C : HC X G own cc d) (hd : d1 + 2 ≤ d) (ht : hT h a = 207) (hlink : Jvm.Cond.methodLink own index xLook ∈ lw_all)
    (hM : HMet (ev_l X) G yX0_lambda_listLook_2 (ws_ yX0_lambda_listLook_2 cX0_lambda_listLook_2 8 (Option.none : Option Jvm.ClassFile.FieldType)) d1 [.int (hI h 91 a), .int (hI h 92 a), va_rf (hR h 93 a), va_rf v, .int q, va_rf o] h (fun v h2 => lamZ 7 v ∧ Q1 v h2) (fun _ _ => False)) (hstk : stk = [va_rf v, .int q, va_rf o].reverse ++ .ref a :: rest) (hc : (rest.map fun v => v.category).sum ≤ 8) (hdg : decode cc pc = .ok (.invokeinterface index count, 5))
    (kk : ∀ v h2, Q1 v h2 → GH X G h2 Q0 (pc + 5) lv (v.toList ++ rest)) : GH X G h Q0 pc lv stk := by
  refine gh_run5 (Q1 := fun v h2 => lamZ 7 v ∧ Q1 v h2) (E1 := fun _ _ => False) #[] (fun H locs ls hP hS hl => ?_) (fun v h2 hq => kk v h2 hq.2) (fun q h2 z => z.elim)
  have hfw : LFw X h d 7 a fwB_7 [18, 20, 22] #[.val (.ref a), .val (va_rf v), .val (.int q), .val (va_rf o)] 15 [.int (hI h 91 a), .int (hI h 92 a), va_rf (hR h 93 a), va_rf v, .int q, va_rf o].reverse := by
    intro U s' R' a' below' methk ck cell Y hby hfs hcell hvm hsl target hrest
    obtain ⟨f0, g0, s0, t0⟩ := hfs 0 18 rfl
    refine fw_get Y C.1.1 hby (i := 18) (j := 0) (a := a) (v := .int (hI h 91 a)) dfw_7_0 dfw_7_1 rfl g0 s0 t0 hcell hvm (hsl 0 91 rfl) ?_
    obtain ⟨f1, g1, s1, t1⟩ := hfs 1 20 rfl
    refine fw_get Y C.1.1 hby (i := 20) (j := 1) (a := a) (v := .int (hI h 92 a)) dfw_7_4 dfw_7_5 rfl g1 s1 t1 hcell hvm (hsl 1 92 rfl) ?_
    obtain ⟨f2, g2, s2, t2⟩ := hfs 2 22 rfl
    refine fw_get Y C.1.1 hby (i := 22) (j := 2) (a := a) (v := va_rf (hR h 93 a)) dfw_7_8 dfw_7_9 rfl g2 s2 t2 hcell hvm (hsl 2 93 rfl) ?_
    refine fw_aload Y C.1.1 hby (k := 1) (r := v) dfw_7_12 rfl ?_
    refine fw_iload Y C.1.1 hby (k := 2) (x := q) dfw_7_13 rfl ?_
    refine fw_aload Y C.1.1 hby (k := 3) (r := o) dfw_7_14 rfl ?_
    exact hrest
  exact lam_run5 (n := 3) (As := [va_rf v, .int q, va_rf o]) (ls0 := #[.val (.ref a), .val (va_rf v), .val (.int q), .val (va_rf o)]) C hd (.tail _ (.tail _ (.tail _ (.tail _ (.tail _ (.tail _ (.head _)))))) : (7, siteWord_1_7) ∈ siteL) LK_7 rfl (by decide) (x := xLook) ⟨rfl, rfl, by decide +kernel⟩ ⟨by decide, by decide⟩ hlink C.2.1.2.2.2.2.2.2.1 hP hS hl.1 (lmCell_200 hP.1 ht (by decide)) rfl (by decide +kernel) hstk hc hdg (fun mk => by cases v <;> cases o <;> rfl) (lam_midS (Bs := [.int (hI h 91 a), .int (hI h 92 a), va_rf (hR h 93 a), va_rf v, .int q, va_rf o]) C hd hP hS (y := yX0_lambda_listLook_2) (by decide +kernel) ⟨by decide, by decide⟩ hM q1544 q138 q1545 (by show _ = some 6; decide +kernel) (by decide) rfl ⟨LK_7.2.2.1.1, LK_7.2.2.1.2.2⟩ dfw_7_15 hfw (Or.inl ⟨rfl, dfw_7_18, fun v h2 hq => hq.1⟩))
theorem lcall_8 {X : Ev} {G : GG} {own : String} {cc : ByteArray} {d d1 pc index count a : Nat} {lv : List (Nat × Value)} {h : HS} {Q0 : State → Prop} {v o : Option Nat} {q : Int32} {rest stk : List Value} {Q1 : QT} (C : HC X G own cc d) (hd : d1 + 2 ≤ d) (ht : hT h a = 208) (hlink : Jvm.Cond.methodLink own index xLook ∈ lw_all)
    (hM : HMet (ev_l X) G yX0_lambda_onceLook_3 (ws_ yX0_lambda_onceLook_3 cX0_lambda_onceLook_3 8 (Option.none : Option Jvm.ClassFile.FieldType)) d1 [va_rf (hR h 94 a), va_rf v, .int q, va_rf o] h (fun v h2 => lamZ 8 v ∧ Q1 v h2) (fun _ _ => False)) (hstk : stk = [va_rf v, .int q, va_rf o].reverse ++ .ref a :: rest) (hc : (rest.map fun v => v.category).sum ≤ 8) (hdg : decode cc pc = .ok (.invokeinterface index count, 5))
    (kk : ∀ v h2, Q1 v h2 → GH X G h2 Q0 (pc + 5) lv (v.toList ++ rest)) : GH X G h Q0 pc lv stk := by
  refine gh_run5 (Q1 := fun v h2 => lamZ 8 v ∧ Q1 v h2) (E1 := fun _ _ => False) #[] (fun H locs ls hP hS hl => ?_) (fun v h2 hq => kk v h2 hq.2) (fun q h2 z => z.elim)
  have hfw : LFw X h d 8 a fwB_8 [15] #[.val (.ref a), .val (va_rf v), .val (.int q), .val (va_rf o)] 7 [va_rf (hR h 94 a), va_rf v, .int q, va_rf o].reverse := by
    intro U s' R' a' below' methk ck cell Y hby hfs hcell hvm hsl target hrest
    obtain ⟨f0, g0, s0, t0⟩ := hfs 0 15 rfl
    refine fw_get Y C.1.1 hby (i := 15) (j := 0) (a := a) (v := va_rf (hR h 94 a)) dfw_8_0 dfw_8_1 rfl g0 s0 t0 hcell hvm (hsl 0 94 rfl) ?_
    refine fw_aload Y C.1.1 hby (k := 1) (r := v) dfw_8_4 rfl ?_
    refine fw_iload Y C.1.1 hby (k := 2) (x := q) dfw_8_5 rfl ?_
    refine fw_aload Y C.1.1 hby (k := 3) (r := o) dfw_8_6 rfl ?_
    exact hrest
  exact lam_run5 (n := 3) (As := [va_rf v, .int q, va_rf o]) (ls0 := #[.val (.ref a), .val (va_rf v), .val (.int q), .val (va_rf o)]) C hd (.tail _ (.tail _ (.tail _ (.tail _ (.tail _ (.tail _ (.tail _ (.head _))))))) : (8, siteWord_1_8) ∈ siteL) LK_8 rfl (by decide) (x := xLook) ⟨rfl, rfl, by decide +kernel⟩ ⟨by decide, by decide⟩ hlink C.2.1.2.2.2.2.2.2.1 hP hS hl.1 (lmCell_200 hP.1 ht (by decide)) rfl (by decide +kernel) hstk hc hdg (fun mk => by cases v <;> cases o <;> rfl) (lam_midS (Bs := [va_rf (hR h 94 a), va_rf v, .int q, va_rf o]) C hd hP hS (y := yX0_lambda_onceLook_3) (by decide +kernel) ⟨by decide, by decide⟩ hM q1554 q138 q1555 (by show _ = some 4; decide +kernel) (by decide) rfl ⟨LK_8.2.2.1.1, LK_8.2.2.1.2.2⟩ dfw_8_7 hfw (Or.inl ⟨rfl, dfw_8_10, fun v h2 hq => hq.1⟩))
theorem lcall_9 {X : Ev} {G : GG} {own : String} {cc : ByteArray} {d d1 pc index count a : Nat} {lv : List (Nat × Value)} {h : HS} {Q0 : State → Prop} {v o : Option Nat} {q : Int32} {rest stk : List Value} {Q1 : QT} (C : HC X G own cc d) (hd : d1 + 2 ≤ d) (ht : hT h a = 209) (hlink : Jvm.Cond.methodLink own index xLook ∈ lw_all)
    (hM : HMet (ev_l X) G yX0_lambda_eitherLook_4 (ws_ yX0_lambda_eitherLook_4 cX0_lambda_eitherLook_4 8 (Option.none : Option Jvm.ClassFile.FieldType)) d1 [va_rf (hR h 95 a), va_rf (hR h 96 a), va_rf v, .int q, va_rf o] h (fun v h2 => lamZ 9 v ∧ Q1 v h2) (fun _ _ => False)) (hstk : stk = [va_rf v, .int q, va_rf o].reverse ++ .ref a :: rest) (hc : (rest.map fun v => v.category).sum ≤ 8) (hdg : decode cc pc = .ok (.invokeinterface index count, 5))
    (kk : ∀ v h2, Q1 v h2 → GH X G h2 Q0 (pc + 5) lv (v.toList ++ rest)) : GH X G h Q0 pc lv stk := by
  refine gh_run5 (Q1 := fun v h2 => lamZ 9 v ∧ Q1 v h2) (E1 := fun _ _ => False) #[] (fun H locs ls hP hS hl => ?_) (fun v h2 hq => kk v h2 hq.2) (fun q h2 z => z.elim)
  have hfw : LFw X h d 9 a fwB_9 [16, 18] #[.val (.ref a), .val (va_rf v), .val (.int q), .val (va_rf o)] 11 [va_rf (hR h 95 a), va_rf (hR h 96 a), va_rf v, .int q, va_rf o].reverse := by
    intro U s' R' a' below' methk ck cell Y hby hfs hcell hvm hsl target hrest
    obtain ⟨f0, g0, s0, t0⟩ := hfs 0 16 rfl
    refine fw_get Y C.1.1 hby (i := 16) (j := 0) (a := a) (v := va_rf (hR h 95 a)) dfw_9_0 dfw_9_1 rfl g0 s0 t0 hcell hvm (hsl 0 95 rfl) ?_
    obtain ⟨f1, g1, s1, t1⟩ := hfs 1 18 rfl
    refine fw_get Y C.1.1 hby (i := 18) (j := 1) (a := a) (v := va_rf (hR h 96 a)) dfw_9_4 dfw_9_5 rfl g1 s1 t1 hcell hvm (hsl 1 96 rfl) ?_
    refine fw_aload Y C.1.1 hby (k := 1) (r := v) dfw_9_8 rfl ?_
    refine fw_iload Y C.1.1 hby (k := 2) (x := q) dfw_9_9 rfl ?_
    refine fw_aload Y C.1.1 hby (k := 3) (r := o) dfw_9_10 rfl ?_
    exact hrest
  exact lam_run5 (n := 3) (As := [va_rf v, .int q, va_rf o]) (ls0 := #[.val (.ref a), .val (va_rf v), .val (.int q), .val (va_rf o)]) C hd (.tail _ (.tail _ (.tail _ (.tail _ (.tail _ (.tail _ (.tail _ (.tail _ (.head _)))))))) : (9, siteWord_1_9) ∈ siteL) LK_9 rfl (by decide) (x := xLook) ⟨rfl, rfl, by decide +kernel⟩ ⟨by decide, by decide⟩ hlink C.2.1.2.2.2.2.2.2.1 hP hS hl.1 (lmCell_200 hP.1 ht (by decide)) rfl (by decide +kernel) hstk hc hdg (fun mk => by cases v <;> cases o <;> rfl) (lam_midS (Bs := [va_rf (hR h 95 a), va_rf (hR h 96 a), va_rf v, .int q, va_rf o]) C hd hP hS (y := yX0_lambda_eitherLook_4) (by decide +kernel) ⟨by decide, by decide⟩ hM q1572 q138 q1573 (by show _ = some 5; decide +kernel) (by decide) rfl ⟨LK_9.2.2.1.1, LK_9.2.2.1.2.2⟩ dfw_9_11 hfw (Or.inl ⟨rfl, dfw_9_14, fun v h2 hq => hq.1⟩))
theorem lcall_10 {X : Ev} {G : GG} {own : String} {cc : ByteArray} {d d1 pc index count a : Nat} {lv : List (Nat × Value)} {h : HS} {Q0 : State → Prop} {v o : Option Nat} {q : Int32} {rest stk : List Value} {Q1 : QT} (C : HC X G own cc d) (hd : d1 + 2 ≤ d) (ht : hT h a = 210) {b : Nat} (hb : hR h 97 a = some b) (hbt : hT h b = 11) (hlink : Jvm.Cond.methodLink own index xLook ∈ lw_all)
    (hM : HMet (ev_l X) G yX3_lambda_again_1 (ws_ yX3_lambda_again_1 cX3_lambda_again_1 4 (Option.none : Option Jvm.ClassFile.FieldType)) d1 (.ref b :: [va_rf v, .int q, va_rf o]) h (fun v h2 => lamZ 10 v ∧ Q1 v h2) (fun _ _ => False)) (hstk : stk = [va_rf v, .int q, va_rf o].reverse ++ .ref a :: rest) (hc : (rest.map fun v => v.category).sum ≤ 8) (hdg : decode cc pc = .ok (.invokeinterface index count, 5))
    (kk : ∀ v h2, Q1 v h2 → GH X G h2 Q0 (pc + 5) lv (v.toList ++ rest)) : GH X G h Q0 pc lv stk := by
  refine gh_run5 (Q1 := fun v h2 => lamZ 10 v ∧ Q1 v h2) (E1 := fun _ _ => False) #[] (fun H locs ls hP hS hl => ?_) (fun v h2 hq => kk v h2 hq.2) (fun q h2 z => z.elim)
  have hfw : LFw X h d 10 a fwB_10 [15] #[.val (.ref a), .val (va_rf v), .val (.int q), .val (va_rf o)] 7 ([va_rf v, .int q, va_rf o].reverse ++ [Value.ref b]) := by
    intro U s' R' a' below' methk ck cell Y hby hfs hcell hvm hsl target hrest
    obtain ⟨f0, g0, s0, t0⟩ := hfs 0 15 rfl
    refine fw_get Y C.1.1 hby (i := 15) (j := 0) (a := a) (v := .ref b) dfw_10_0 dfw_10_1 rfl g0 s0 t0 hcell hvm (by have z := hsl 0 97 rfl; rw [show hval h 97 a = va_rf (hR h 97 a) from rfl, hb] at z; exact z) ?_
    refine fw_aload Y C.1.1 hby (k := 1) (r := v) dfw_10_4 rfl ?_
    refine fw_iload Y C.1.1 hby (k := 2) (x := q) dfw_10_5 rfl ?_
    refine fw_aload Y C.1.1 hby (k := 3) (r := o) dfw_10_6 rfl ?_
    exact hrest
  exact lam_run5 (n := 3) (As := [va_rf v, .int q, va_rf o]) (ls0 := #[.val (.ref a), .val (va_rf v), .val (.int q), .val (va_rf o)]) C hd (.tail _ (.tail _ (.tail _ (.tail _ (.tail _ (.tail _ (.tail _ (.tail _ (.tail _ (.head _))))))))) : (10, siteWord_1_10) ∈ siteL) LK_10 rfl (by decide) (x := xLook) ⟨rfl, rfl, by decide +kernel⟩ ⟨by decide, by decide⟩ hlink C.2.1.2.2.2.2.2.2.1 hP hS hl.1 (lmCell_200 hP.1 ht (by decide)) rfl (by decide +kernel) hstk hc hdg (fun mk => by cases v <;> cases o <;> rfl) (lam_midV (b := b) (Bs := [va_rf v, .int q, va_rf o]) C hd hP hS (y := yX3_lambda_again_1) (by decide +kernel) ⟨by decide, by decide⟩ hM q1579 qs23 (.of (ci := 10) hbt (by decide) rfl) q141 q1580 (by show _ = some 3; decide +kernel) (by decide) rfl ⟨LK_10.2.2.1.1, LK_10.2.2.1.2.2⟩ dfw_10_7 hfw (Or.inl ⟨rfl, dfw_10_10, fun v h2 hq => hq.1⟩))
theorem lcall_11 {X : Ev} {G : GG} {own : String} {cc : ByteArray} {d d1 pc index count a : Nat} {lv : List (Nat × Value)} {h : HS} {Q0 : State → Prop} {v o : Option Nat} {q : Int32} {rest stk : List Value} {Q1 : QT} (C : HC X G own cc d) (hd : d1 + 2 ≤ d) (ht : hT h a = 311) (hlink : Jvm.Cond.methodLink own index xLook ∈ lw_all)
    (hM : HMet (ev_l X) G yX9_lambda_check_0 (ws_ yX9_lambda_check_0 cX9_lambda_check_0 3 (Option.none : Option Jvm.ClassFile.FieldType)) d1 [va_rf v, .int q, va_rf o] h (fun v h2 => lamZ 11 v ∧ Q1 v h2) (fun _ _ => False)) (hstk : stk = [va_rf v, .int q, va_rf o].reverse ++ .ref a :: rest) (hc : (rest.map fun v => v.category).sum ≤ 8) (hdg : decode cc pc = .ok (.invokeinterface index count, 5))
    (kk : ∀ v h2, Q1 v h2 → GH X G h2 Q0 (pc + 5) lv (v.toList ++ rest)) : GH X G h Q0 pc lv stk := by
  refine gh_run5 (Q1 := fun v h2 => lamZ 11 v ∧ Q1 v h2) (E1 := fun _ _ => False) #[] (fun H locs ls hP hS hl => ?_) (fun v h2 hq => kk v h2 hq.2) (fun q h2 z => z.elim)
  have hfw : LFw X h d 11 a fwB_11 [] #[.val (.ref a), .val (va_rf v), .val (.int q), .val (va_rf o)] 3 [va_rf v, .int q, va_rf o].reverse := by
    intro U s' R' a' below' methk ck cell Y hby hfs hcell hvm hsl target hrest
    refine fw_aload Y C.1.1 hby (k := 1) (r := v) dfw_11_0 rfl ?_
    refine fw_iload Y C.1.1 hby (k := 2) (x := q) dfw_11_1 rfl ?_
    refine fw_aload Y C.1.1 hby (k := 3) (r := o) dfw_11_2 rfl ?_
    exact hrest
  exact lam_run5 (n := 3) (As := [va_rf v, .int q, va_rf o]) (ls0 := #[.val (.ref a), .val (va_rf v), .val (.int q), .val (va_rf o)]) C hd (.tail _ (.tail _ (.tail _ (.tail _ (.tail _ (.tail _ (.tail _ (.tail _ (.tail _ (.tail _ (.head _)))))))))) : (11, siteWord_1_11) ∈ siteL) LK_11 rfl (by decide) (x := xLook) ⟨rfl, rfl, by decide +kernel⟩ ⟨by decide, by decide⟩ hlink C.2.1.2.2.2.2.2.2.1 hP hS hl.1 (lmCell_300 C hP hS ht (by decide)) rfl (by decide +kernel) hstk hc hdg (fun mk => by cases v <;> cases o <;> rfl) (lam_midS (Bs := [va_rf v, .int q, va_rf o]) C hd hP hS (y := yX9_lambda_check_0) (by decide +kernel) ⟨by decide, by decide⟩ hM q1583 q150 q1584 (by show _ = some 3; decide +kernel) (by decide) rfl ⟨LK_11.2.2.1.1, LK_11.2.2.1.2.2⟩ dfw_11_3 hfw (Or.inl ⟨rfl, dfw_11_6, fun v h2 hq => hq.1⟩))
theorem gcl_X0_27 {X : Ev} {G : GG} {cc : ByteArray} {d d2 pc : Nat} {lv : List (Nat × Value)} {h : HS} {Q0 : State → Prop} {As rest stk : List Value} {Q1 : QT} {E1 : ET} {cl : CT} (C : HC X G RX0 cc d) (hLa : LamsOK (ev_l X) G d2 cl) (hd : d2 + 1 ≤ d) {a : Nat} (hw : dl_Look cl a As h Q1 E1) (hstk : stk = As.reverse ++ .ref a :: rest) (hn : As.length = 3) (hc : (rest.map fun v => v.category).sum ≤ 8) (hdg : decode cc pc = .ok (.invokeinterface 27 4, 5)) (kk : ∀ v h2, Q1 v h2 → GH X G h2 Q0 (pc + 5) lv (v.toList ++ rest)) (kx : ∀ q h2, E1 q h2 → (hT h2 q = 16 ∨ hT h2 q = 17) → GX X G h2 Q0 pc lv q) : GH X G h Q0 pc lv stk := by
  obtain ⟨⟨v, q, o, e⟩, i, hi, hcl⟩ := hw
  subst e
  rcases hi with ⟨hi, ht⟩ | ⟨hi, ht⟩
  · simp only [List.mem_cons, List.not_mem_nil, or_false] at hi
    rcases hi with e | e | e | e | e | e | e <;> subst e
    · obtain ⟨d1, y, ws, hd1, hmY, hlw, hM⟩ := hLa 2 _ _ _ _ _ hcl (by decide) (by decide)
      cases hmY.symm.trans (rfl : mY[lamM 2]? = some (yX0_lambda_numberLook_0, ws_ yX0_lambda_numberLook_0 cX0_lambda_numberLook_0 6 (Option.none : Option Jvm.ClassFile.FieldType)))
      exact lcall_2 C (by omega) ht q1303 hM hstk hc hdg kk
    · obtain ⟨d1, y, ws, hd1, hmY, hlw, hM⟩ := hLa 3 _ _ _ _ _ hcl (by decide) (by decide)
      cases hmY.symm.trans (rfl : mY[lamM 3]? = some (yX0_lambda_thereLook_1, ws_ yX0_lambda_thereLook_1 cX0_lambda_thereLook_1 5 (Option.none : Option Jvm.ClassFile.FieldType)))
      exact lcall_3 C (by omega) ht q1303 hM hstk hc hdg kk
    · obtain ⟨d1, y, ws, hd1, hmY, hlw, hM⟩ := hLa 6 _ _ _ _ _ hcl (by decide) (by decide)
      cases hmY.symm.trans (rfl : mY[lamM 6]? = some (yX14_lookAt, ws_ yX14_lookAt cX14_lookAt 8 (Option.none : Option Jvm.ClassFile.FieldType)))
      obtain ⟨b, hb, hbt⟩ := hlw
      rw [show capV h a 6 = [va_rf (hR h 90 a)] from rfl, hb] at hM
      exact lcall_6 C (by omega) ht hb hbt q1303 hM hstk hc hdg kk
    · obtain ⟨d1, y, ws, hd1, hmY, hlw, hM⟩ := hLa 7 _ _ _ _ _ hcl (by decide) (by decide)
      cases hmY.symm.trans (rfl : mY[lamM 7]? = some (yX0_lambda_listLook_2, ws_ yX0_lambda_listLook_2 cX0_lambda_listLook_2 8 (Option.none : Option Jvm.ClassFile.FieldType)))
      exact lcall_7 C (by omega) ht q1303 hM hstk hc hdg kk
    · obtain ⟨d1, y, ws, hd1, hmY, hlw, hM⟩ := hLa 8 _ _ _ _ _ hcl (by decide) (by decide)
      cases hmY.symm.trans (rfl : mY[lamM 8]? = some (yX0_lambda_onceLook_3, ws_ yX0_lambda_onceLook_3 cX0_lambda_onceLook_3 8 (Option.none : Option Jvm.ClassFile.FieldType)))
      exact lcall_8 C (by omega) ht q1303 hM hstk hc hdg kk
    · obtain ⟨d1, y, ws, hd1, hmY, hlw, hM⟩ := hLa 9 _ _ _ _ _ hcl (by decide) (by decide)
      cases hmY.symm.trans (rfl : mY[lamM 9]? = some (yX0_lambda_eitherLook_4, ws_ yX0_lambda_eitherLook_4 cX0_lambda_eitherLook_4 8 (Option.none : Option Jvm.ClassFile.FieldType)))
      exact lcall_9 C (by omega) ht q1303 hM hstk hc hdg kk
    · obtain ⟨d1, y, ws, hd1, hmY, hlw, hM⟩ := hLa 10 _ _ _ _ _ hcl (by decide) (by decide)
      cases hmY.symm.trans (rfl : mY[lamM 10]? = some (yX3_lambda_again_1, ws_ yX3_lambda_again_1 cX3_lambda_again_1 4 (Option.none : Option Jvm.ClassFile.FieldType)))
      obtain ⟨b, hb, hbt⟩ := hlw
      rw [show capV h a 10 = [va_rf (hR h 97 a)] from rfl, hb] at hM
      exact lcall_10 C (by omega) ht hb hbt q1303 hM hstk hc hdg kk
  · simp only [List.mem_cons, List.not_mem_nil, or_false] at hi
    rcases hi with e | e <;> subst e
    · obtain ⟨d1, y, ws, hd1, hmY, hlw, hM⟩ := hLa 1 _ _ _ _ _ hcl (by decide) (by decide)
      cases hmY.symm.trans (rfl : mY[lamM 1]? = some (yX3_lambda_new_0, ws_ yX3_lambda_new_0 cX3_lambda_new_0 3 (Option.none : Option Jvm.ClassFile.FieldType)))
      exact lcall_1 C (by omega) ht q1303 hM hstk hc hdg kk
    · obtain ⟨d1, y, ws, hd1, hmY, hlw, hM⟩ := hLa 11 _ _ _ _ _ hcl (by decide) (by decide)
      cases hmY.symm.trans (rfl : mY[lamM 11]? = some (yX9_lambda_check_0, ws_ yX9_lambda_check_0 cX9_lambda_check_0 3 (Option.none : Option Jvm.ClassFile.FieldType)))
      exact lcall_11 C (by omega) ht q1303 hM hstk hc hdg kk
theorem gcl_X3_41 {X : Ev} {G : GG} {cc : ByteArray} {d d2 pc : Nat} {lv : List (Nat × Value)} {h : HS} {Q0 : State → Prop} {As rest stk : List Value} {Q1 : QT} {E1 : ET} {cl : CT} (C : HC X G RX3 cc d) (hLa : LamsOK (ev_l X) G d2 cl) (hd : d2 + 1 ≤ d) {a : Nat} (hw : dl_Look cl a As h Q1 E1) (hstk : stk = As.reverse ++ .ref a :: rest) (hn : As.length = 3) (hc : (rest.map fun v => v.category).sum ≤ 8) (hdg : decode cc pc = .ok (.invokeinterface 41 4, 5)) (kk : ∀ v h2, Q1 v h2 → GH X G h2 Q0 (pc + 5) lv (v.toList ++ rest)) (kx : ∀ q h2, E1 q h2 → (hT h2 q = 16 ∨ hT h2 q = 17) → GX X G h2 Q0 pc lv q) : GH X G h Q0 pc lv stk := by
  obtain ⟨⟨v, q, o, e⟩, i, hi, hcl⟩ := hw
  subst e
  rcases hi with ⟨hi, ht⟩ | ⟨hi, ht⟩
  · simp only [List.mem_cons, List.not_mem_nil, or_false] at hi
    rcases hi with e | e | e | e | e | e | e <;> subst e
    · obtain ⟨d1, y, ws, hd1, hmY, hlw, hM⟩ := hLa 2 _ _ _ _ _ hcl (by decide) (by decide)
      cases hmY.symm.trans (rfl : mY[lamM 2]? = some (yX0_lambda_numberLook_0, ws_ yX0_lambda_numberLook_0 cX0_lambda_numberLook_0 6 (Option.none : Option Jvm.ClassFile.FieldType)))
      exact lcall_2 C (by omega) ht q1582 hM hstk hc hdg kk
    · obtain ⟨d1, y, ws, hd1, hmY, hlw, hM⟩ := hLa 3 _ _ _ _ _ hcl (by decide) (by decide)
      cases hmY.symm.trans (rfl : mY[lamM 3]? = some (yX0_lambda_thereLook_1, ws_ yX0_lambda_thereLook_1 cX0_lambda_thereLook_1 5 (Option.none : Option Jvm.ClassFile.FieldType)))
      exact lcall_3 C (by omega) ht q1582 hM hstk hc hdg kk
    · obtain ⟨d1, y, ws, hd1, hmY, hlw, hM⟩ := hLa 6 _ _ _ _ _ hcl (by decide) (by decide)
      cases hmY.symm.trans (rfl : mY[lamM 6]? = some (yX14_lookAt, ws_ yX14_lookAt cX14_lookAt 8 (Option.none : Option Jvm.ClassFile.FieldType)))
      obtain ⟨b, hb, hbt⟩ := hlw
      rw [show capV h a 6 = [va_rf (hR h 90 a)] from rfl, hb] at hM
      exact lcall_6 C (by omega) ht hb hbt q1582 hM hstk hc hdg kk
    · obtain ⟨d1, y, ws, hd1, hmY, hlw, hM⟩ := hLa 7 _ _ _ _ _ hcl (by decide) (by decide)
      cases hmY.symm.trans (rfl : mY[lamM 7]? = some (yX0_lambda_listLook_2, ws_ yX0_lambda_listLook_2 cX0_lambda_listLook_2 8 (Option.none : Option Jvm.ClassFile.FieldType)))
      exact lcall_7 C (by omega) ht q1582 hM hstk hc hdg kk
    · obtain ⟨d1, y, ws, hd1, hmY, hlw, hM⟩ := hLa 8 _ _ _ _ _ hcl (by decide) (by decide)
      cases hmY.symm.trans (rfl : mY[lamM 8]? = some (yX0_lambda_onceLook_3, ws_ yX0_lambda_onceLook_3 cX0_lambda_onceLook_3 8 (Option.none : Option Jvm.ClassFile.FieldType)))
      exact lcall_8 C (by omega) ht q1582 hM hstk hc hdg kk
    · obtain ⟨d1, y, ws, hd1, hmY, hlw, hM⟩ := hLa 9 _ _ _ _ _ hcl (by decide) (by decide)
      cases hmY.symm.trans (rfl : mY[lamM 9]? = some (yX0_lambda_eitherLook_4, ws_ yX0_lambda_eitherLook_4 cX0_lambda_eitherLook_4 8 (Option.none : Option Jvm.ClassFile.FieldType)))
      exact lcall_9 C (by omega) ht q1582 hM hstk hc hdg kk
    · obtain ⟨d1, y, ws, hd1, hmY, hlw, hM⟩ := hLa 10 _ _ _ _ _ hcl (by decide) (by decide)
      cases hmY.symm.trans (rfl : mY[lamM 10]? = some (yX3_lambda_again_1, ws_ yX3_lambda_again_1 cX3_lambda_again_1 4 (Option.none : Option Jvm.ClassFile.FieldType)))
      obtain ⟨b, hb, hbt⟩ := hlw
      rw [show capV h a 10 = [va_rf (hR h 97 a)] from rfl, hb] at hM
      exact lcall_10 C (by omega) ht hb hbt q1582 hM hstk hc hdg kk
  · simp only [List.mem_cons, List.not_mem_nil, or_false] at hi
    rcases hi with e | e <;> subst e
    · obtain ⟨d1, y, ws, hd1, hmY, hlw, hM⟩ := hLa 1 _ _ _ _ _ hcl (by decide) (by decide)
      cases hmY.symm.trans (rfl : mY[lamM 1]? = some (yX3_lambda_new_0, ws_ yX3_lambda_new_0 cX3_lambda_new_0 3 (Option.none : Option Jvm.ClassFile.FieldType)))
      exact lcall_1 C (by omega) ht q1582 hM hstk hc hdg kk
    · obtain ⟨d1, y, ws, hd1, hmY, hlw, hM⟩ := hLa 11 _ _ _ _ _ hcl (by decide) (by decide)
      cases hmY.symm.trans (rfl : mY[lamM 11]? = some (yX9_lambda_check_0, ws_ yX9_lambda_check_0 cX9_lambda_check_0 3 (Option.none : Option Jvm.ClassFile.FieldType)))
      exact lcall_11 C (by omega) ht q1582 hM hstk hc hdg kk
theorem gcl_X14_79 {X : Ev} {G : GG} {cc : ByteArray} {d d2 pc : Nat} {lv : List (Nat × Value)} {h : HS} {Q0 : State → Prop} {As rest stk : List Value} {Q1 : QT} {E1 : ET} {cl : CT} (C : HC X G RX14 cc d) (hLa : LamsOK (ev_l X) G d2 cl) (hd : d2 + 1 ≤ d) {a : Nat} (hw : dl_Look cl a As h Q1 E1) (hstk : stk = As.reverse ++ .ref a :: rest) (hn : As.length = 3) (hc : (rest.map fun v => v.category).sum ≤ 8) (hdg : decode cc pc = .ok (.invokeinterface 79 4, 5)) (kk : ∀ v h2, Q1 v h2 → GH X G h2 Q0 (pc + 5) lv (v.toList ++ rest)) (kx : ∀ q h2, E1 q h2 → (hT h2 q = 16 ∨ hT h2 q = 17) → GX X G h2 Q0 pc lv q) : GH X G h Q0 pc lv stk := by
  obtain ⟨⟨v, q, o, e⟩, i, hi, hcl⟩ := hw
  subst e
  rcases hi with ⟨hi, ht⟩ | ⟨hi, ht⟩
  · simp only [List.mem_cons, List.not_mem_nil, or_false] at hi
    rcases hi with e | e | e | e | e | e | e <;> subst e
    · obtain ⟨d1, y, ws, hd1, hmY, hlw, hM⟩ := hLa 2 _ _ _ _ _ hcl (by decide) (by decide)
      cases hmY.symm.trans (rfl : mY[lamM 2]? = some (yX0_lambda_numberLook_0, ws_ yX0_lambda_numberLook_0 cX0_lambda_numberLook_0 6 (Option.none : Option Jvm.ClassFile.FieldType)))
      exact lcall_2 C (by omega) ht q1455 hM hstk hc hdg kk
    · obtain ⟨d1, y, ws, hd1, hmY, hlw, hM⟩ := hLa 3 _ _ _ _ _ hcl (by decide) (by decide)
      cases hmY.symm.trans (rfl : mY[lamM 3]? = some (yX0_lambda_thereLook_1, ws_ yX0_lambda_thereLook_1 cX0_lambda_thereLook_1 5 (Option.none : Option Jvm.ClassFile.FieldType)))
      exact lcall_3 C (by omega) ht q1455 hM hstk hc hdg kk
    · obtain ⟨d1, y, ws, hd1, hmY, hlw, hM⟩ := hLa 6 _ _ _ _ _ hcl (by decide) (by decide)
      cases hmY.symm.trans (rfl : mY[lamM 6]? = some (yX14_lookAt, ws_ yX14_lookAt cX14_lookAt 8 (Option.none : Option Jvm.ClassFile.FieldType)))
      obtain ⟨b, hb, hbt⟩ := hlw
      rw [show capV h a 6 = [va_rf (hR h 90 a)] from rfl, hb] at hM
      exact lcall_6 C (by omega) ht hb hbt q1455 hM hstk hc hdg kk
    · obtain ⟨d1, y, ws, hd1, hmY, hlw, hM⟩ := hLa 7 _ _ _ _ _ hcl (by decide) (by decide)
      cases hmY.symm.trans (rfl : mY[lamM 7]? = some (yX0_lambda_listLook_2, ws_ yX0_lambda_listLook_2 cX0_lambda_listLook_2 8 (Option.none : Option Jvm.ClassFile.FieldType)))
      exact lcall_7 C (by omega) ht q1455 hM hstk hc hdg kk
    · obtain ⟨d1, y, ws, hd1, hmY, hlw, hM⟩ := hLa 8 _ _ _ _ _ hcl (by decide) (by decide)
      cases hmY.symm.trans (rfl : mY[lamM 8]? = some (yX0_lambda_onceLook_3, ws_ yX0_lambda_onceLook_3 cX0_lambda_onceLook_3 8 (Option.none : Option Jvm.ClassFile.FieldType)))
      exact lcall_8 C (by omega) ht q1455 hM hstk hc hdg kk
    · obtain ⟨d1, y, ws, hd1, hmY, hlw, hM⟩ := hLa 9 _ _ _ _ _ hcl (by decide) (by decide)
      cases hmY.symm.trans (rfl : mY[lamM 9]? = some (yX0_lambda_eitherLook_4, ws_ yX0_lambda_eitherLook_4 cX0_lambda_eitherLook_4 8 (Option.none : Option Jvm.ClassFile.FieldType)))
      exact lcall_9 C (by omega) ht q1455 hM hstk hc hdg kk
    · obtain ⟨d1, y, ws, hd1, hmY, hlw, hM⟩ := hLa 10 _ _ _ _ _ hcl (by decide) (by decide)
      cases hmY.symm.trans (rfl : mY[lamM 10]? = some (yX3_lambda_again_1, ws_ yX3_lambda_again_1 cX3_lambda_again_1 4 (Option.none : Option Jvm.ClassFile.FieldType)))
      obtain ⟨b, hb, hbt⟩ := hlw
      rw [show capV h a 10 = [va_rf (hR h 97 a)] from rfl, hb] at hM
      exact lcall_10 C (by omega) ht hb hbt q1455 hM hstk hc hdg kk
  · simp only [List.mem_cons, List.not_mem_nil, or_false] at hi
    rcases hi with e | e <;> subst e
    · obtain ⟨d1, y, ws, hd1, hmY, hlw, hM⟩ := hLa 1 _ _ _ _ _ hcl (by decide) (by decide)
      cases hmY.symm.trans (rfl : mY[lamM 1]? = some (yX3_lambda_new_0, ws_ yX3_lambda_new_0 cX3_lambda_new_0 3 (Option.none : Option Jvm.ClassFile.FieldType)))
      exact lcall_1 C (by omega) ht q1455 hM hstk hc hdg kk
    · obtain ⟨d1, y, ws, hd1, hmY, hlw, hM⟩ := hLa 11 _ _ _ _ _ hcl (by decide) (by decide)
      cases hmY.symm.trans (rfl : mY[lamM 11]? = some (yX9_lambda_check_0, ws_ yX9_lambda_check_0 cX9_lambda_check_0 3 (Option.none : Option Jvm.ClassFile.FieldType)))
      exact lcall_11 C (by omega) ht q1455 hM hstk hc hdg kk
theorem gcl_X14_114 {X : Ev} {G : GG} {cc : ByteArray} {d d2 pc : Nat} {lv : List (Nat × Value)} {h : HS} {Q0 : State → Prop} {As rest stk : List Value} {Q1 : QT} {E1 : ET} {cl : CT} (C : HC X G RX14 cc d) (hLa : LamsOK (ev_l X) G d2 cl) (hd : d2 + 1 ≤ d) {a : Nat} (hw : dl_Both cl a As h Q1 E1) (hstk : stk = As.reverse ++ .ref a :: rest) (hn : As.length = 2) (hc : (rest.map fun v => v.category).sum ≤ 8) (hdg : decode cc pc = .ok (.invokeinterface 114 3, 5)) (kk : ∀ v h2, Q1 v h2 → GH X G h2 Q0 (pc + 5) lv (v.toList ++ rest)) (kx : ∀ q h2, E1 q h2 → (hT h2 q = 16 ∨ hT h2 q = 17) → GX X G h2 Q0 pc lv q) : GH X G h Q0 pc lv stk := by
  obtain ⟨⟨v, o, e⟩, i, hi, ht, hcl⟩ := hw
  subst e
  simp only [List.mem_cons, List.not_mem_nil, or_false] at hi
  rcases hi with e | e <;> subst e
  · obtain ⟨d1, y, ws, hd1, hmY, hlw, hM⟩ := hLa 4 _ _ _ _ _ hcl (by decide) (by decide)
    cases hmY.symm.trans (rfl : mY[lamM 4]? = some (yX9_lambda_record_1, ws_ yX9_lambda_record_1 cX9_lambda_record_1 2 (Option.some Jvm.ClassFile.FieldType.boolean)))
    exact lcall_4 C (by omega) ht q1529 hM hstk hc hdg kk
  · obtain ⟨d1, y, ws, hd1, hmY, hlw, hM⟩ := hLa 5 _ _ _ _ _ hcl (by decide) (by decide)
    cases hmY.symm.trans (rfl : mY[lamM 5]? = some (yX9_lambda_record_2, ws_ yX9_lambda_record_2 cX9_lambda_record_2 2 (Option.some Jvm.ClassFile.FieldType.boolean)))
    exact lcall_5 C (by omega) ht q1529 hM hstk hc hdg kk
theorem hI_sR2 (h : HS) (f a : Nat) (v : Option Nat) (g b : Nat) : hI (sR h f a v) g b = hI h g b := rfl
theorem hR_sI2 (h : HS) (f a : Nat) (v : Int32) (g b : Nat) : hR (sI h f a v) g b = hR h g b := rfl
theorem nar_o {C : String} {r : Option Nat} : narrow (.object C) (va_rf r) = va_rf r := by cases r <;> rfl
theorem fit_o {C : String} {r : Option Nat} : fits (.object C) (va_rf r) = true := by cases r <;> rfl
theorem gd_1 {X : Ev} {G : GG} {d : Nat} {lv : List (Nat × Value)} {rest : List Value} {h : HS} {Q0 : State → Prop} (C : HC X G RX3 cX3_init d) (hnd : (ev_s X).methodNamed? yX3_init = some (ev_m X)) (hc : (rest.map fun v => v.category).sum ≤ 8) (hdg : decode cX3_init 5 = .ok (.invokedynamic 7, 5)) (kk : ∀ a : Nat, hT h a = 301 → GH X G h Q0 (5 + 5) lv (.ref a :: rest)) : GH X G h Q0 5 lv rest := gh_lamC C (.head _ : (1, siteWord_1_1) ∈ siteL) (by decide) rfl hnd rfl hc hdg kk
theorem gd_2 {X : Ev} {G : GG} {d : Nat} {lv : List (Nat × Value)} {rest : List Value} {h : HS} {Q0 : State → Prop} {v0 : Int32} {v1 : Int32} (C : HC X G RX0 cX0_numberLook d) (hnd : (ev_s X).methodNamed? yX0_numberLook = some (ev_m X)) (h1 : hZ h + 1 ≤ gCC G) (h2 : hL h + 2 ≤ gSS G) (hc : (rest.map fun v => v.category).sum ≤ 8) (hdg : decode cX0_numberLook 2 = .ok (.invokedynamic 33, 5)) (kk : ∀ (a : Nat) (h2 : HS), a = hZ h → h2 = sI (sI (hNew h 202 0 2) 86 (hZ h) v0) 87 (hZ h) v1 → GH X G h2 Q0 (2 + 5) lv (.ref a :: rest)) : GH X G h Q0 2 lv (.int v1 :: .int v0 :: rest) :=
  gh_lamM (tys := [Jvm.ClassFile.FieldType.int, Jvm.ClassFile.FieldType.int]) (vals := [.int v0, .int v1]) (h' := sI (sI (hNew h 202 0 2) 86 (hZ h) v0) 87 (hZ h) v1) C (.tail _ (.head _) : (2, siteWord_1_2) ∈ siteL) ⟨by decide, by decide⟩ LK_2 rfl (by decide) hnd ⟨rfl, rfl⟩ rfl ⟨rfl, rfl⟩ (congr (congrArg List.cons rfl) (congr (congrArg List.cons rfl) rfl)) (fun j t v ht hv => match j, ht, hv with | 0, ht9, hv9 => by have e1 := Option.some.inj ht9; have e2 := Option.some.inj hv9; subst e1; subst e2; exact rfl | 1, ht9, hv9 => by have e1 := Option.some.inj ht9; have e2 := Option.some.inj hv9; subst e1; subst e2; exact rfl | _ + 2, ht9, hv9 => by cases ht9) h1 h2 ⟨hc, by simp [va_rf_cat, cat_i]⟩ hdg rfl rfl rfl (fun b hb => (hcell_sI hb).trans ((hcell_sI hb).trans (hcell_new hb))) (fun f b hb => (hval_sI (fun z => hb z.2)).trans ((hval_sI (fun z => hb z.2)).trans (hval_new hb))) (fun g b hb => by simp [hI_sI, hI_sR2, hI_new, hb]) (fun k f e => match k, e with | 0, e9 => by have e1 := Option.some.inj e9; subst e1; exact congrArg some (by show Value.int _ = Value.int (hI _ _ _); simp [hI_sI, hI_sR2, hR_sR, hR_sI2]) | 1, e9 => by have e1 := Option.some.inj e9; subst e1; exact congrArg some (by show Value.int _ = Value.int (hI _ _ _); simp [hI_sI, hI_sR2, hR_sR, hR_sI2]) | _ + 2, e9 => by cases e9) (kk _ _ rfl rfl)
theorem gd_3 {X : Ev} {G : GG} {d : Nat} {lv : List (Nat × Value)} {rest : List Value} {h : HS} {Q0 : State → Prop} {r0 : Option Nat} {v1 : Int32} (C : HC X G RX0 cX0_thereLook d) (hnd : (ev_s X).methodNamed? yX0_thereLook = some (ev_m X)) (hz : bz v1) (h1 : hZ h + 1 ≤ gCC G) (h2 : hL h + 2 ≤ gSS G) (hc : (rest.map fun v => v.category).sum ≤ 8) (hdg : decode cX0_thereLook 2 = .ok (.invokedynamic 36, 5)) (kk : ∀ (a : Nat) (h2 : HS), a = hZ h → h2 = sI (sR (hNew h 203 0 2) 88 (hZ h) r0) 89 (hZ h) v1 → GH X G h2 Q0 (2 + 5) lv (.ref a :: rest)) : GH X G h Q0 2 lv (.int v1 :: va_rf r0 :: rest) :=
  gh_lamM (tys := [(Jvm.ClassFile.FieldType.object "GathersAllFaults$Look"), Jvm.ClassFile.FieldType.boolean]) (vals := [va_rf r0, .int v1]) (h' := sI (sR (hNew h 203 0 2) 88 (hZ h) r0) 89 (hZ h) v1) C (.tail _ (.tail _ (.head _)) : (3, siteWord_1_3) ∈ siteL) ⟨by decide, by decide⟩ LK_3 rfl (by decide) hnd ⟨rfl, rfl⟩ rfl ⟨rfl, rfl⟩ (congr (congrArg List.cons nar_o) (congr (congrArg List.cons (bz_nar hz)) rfl)) (fun j t v ht hv => match j, ht, hv with | 0, ht9, hv9 => by have e1 := Option.some.inj ht9; have e2 := Option.some.inj hv9; subst e1; subst e2; exact fit_o | 1, ht9, hv9 => by have e1 := Option.some.inj ht9; have e2 := Option.some.inj hv9; subst e1; subst e2; exact bz_fit hz | _ + 2, ht9, hv9 => by cases ht9) h1 h2 ⟨hc, by simp [va_rf_cat, cat_i]⟩ hdg rfl rfl rfl (fun b hb => (hcell_sI hb).trans ((hcell_sR hb).trans (hcell_new hb))) (fun f b hb => (hval_sI (fun z => hb z.2)).trans ((hval_sR (fun z => hb z.2)).trans (hval_new hb))) (fun g b hb => by simp [hI_sI, hI_sR2, hI_new, hb]) (fun k f e => match k, e with | 0, e9 => by have e1 := Option.some.inj e9; subst e1; exact congrArg some (by show va_rf _ = va_rf (hR _ _ _); simp [hI_sI, hI_sR2, hR_sR, hR_sI2]) | 1, e9 => by have e1 := Option.some.inj e9; subst e1; exact congrArg some (by show Value.int _ = Value.int (hI _ _ _); simp [hI_sI, hI_sR2, hR_sR, hR_sI2]) | _ + 2, e9 => by cases e9) (kk _ _ rfl rfl)
theorem gd_4 {X : Ev} {G : GG} {d : Nat} {lv : List (Nat × Value)} {rest : List Value} {h : HS} {Q0 : State → Prop} (C : HC X G RX9 cX9_record d) (hnd : (ev_s X).methodNamed? yX9_record = some (ev_m X)) (hc : (rest.map fun v => v.category).sum ≤ 8) (hdg : decode cX9_record 202 = .ok (.invokedynamic 190, 5)) (kk : ∀ a : Nat, hT h a = 304 → GH X G h Q0 (202 + 5) lv (.ref a :: rest)) : GH X G h Q0 202 lv rest := gh_lamC C (.tail _ (.tail _ (.tail _ (.head _))) : (4, siteWord_1_4) ∈ siteL) (by decide) rfl hnd rfl hc hdg kk
theorem gd_5 {X : Ev} {G : GG} {d : Nat} {lv : List (Nat × Value)} {rest : List Value} {h : HS} {Q0 : State → Prop} (C : HC X G RX9 cX9_record d) (hnd : (ev_s X).methodNamed? yX9_record = some (ev_m X)) (hc : (rest.map fun v => v.category).sum ≤ 8) (hdg : decode cX9_record 210 = .ok (.invokedynamic 194, 5)) (kk : ∀ a : Nat, hT h a = 305 → GH X G h Q0 (210 + 5) lv (.ref a :: rest)) : GH X G h Q0 210 lv rest := gh_lamC C (.tail _ (.tail _ (.tail _ (.tail _ (.head _)))) : (5, siteWord_1_5) ∈ siteL) (by decide) rfl hnd rfl hc hdg kk
theorem gd_6 {X : Ev} {G : GG} {d : Nat} {lv : List (Nat × Value)} {rest : List Value} {h : HS} {Q0 : State → Prop} {r0 : Option Nat} (C : HC X G RX14 cX14_look d) (hnd : (ev_s X).methodNamed? yX14_look = some (ev_m X)) (h1 : hZ h + 1 ≤ gCC G) (h2 : hL h + 1 ≤ gSS G) (hc : (rest.map fun v => v.category).sum ≤ 8) (hdg : decode cX14_look 1 = .ok (.invokedynamic 123, 5)) (kk : ∀ (a : Nat) (h2 : HS), a = hZ h → h2 = sR (hNew h 206 0 1) 90 (hZ h) r0 → GH X G h2 Q0 (1 + 5) lv (.ref a :: rest)) : GH X G h Q0 1 lv (va_rf r0 :: rest) :=
  gh_lamM (tys := [(Jvm.ClassFile.FieldType.object "GathersAllFaults$Spec")]) (vals := [va_rf r0]) (h' := sR (hNew h 206 0 1) 90 (hZ h) r0) C (.tail _ (.tail _ (.tail _ (.tail _ (.tail _ (.head _))))) : (6, siteWord_1_6) ∈ siteL) ⟨by decide, by decide⟩ LK_6 rfl (by decide) hnd ⟨rfl, rfl⟩ rfl ⟨rfl, rfl⟩ (congr (congrArg List.cons nar_o) rfl) (fun j t v ht hv => match j, ht, hv with | 0, ht9, hv9 => by have e1 := Option.some.inj ht9; have e2 := Option.some.inj hv9; subst e1; subst e2; exact fit_o | _ + 1, ht9, hv9 => by cases ht9) h1 h2 ⟨hc, by simp [va_rf_cat, cat_i]⟩ hdg rfl rfl rfl (fun b hb => (hcell_sR hb).trans (hcell_new hb)) (fun f b hb => (hval_sR (fun z => hb z.2)).trans (hval_new hb)) (fun g b hb => by simp [hI_sI, hI_sR2, hI_new, hb]) (fun k f e => match k, e with | 0, e9 => by have e1 := Option.some.inj e9; subst e1; exact congrArg some (by show va_rf _ = va_rf (hR _ _ _); simp [hI_sI, hI_sR2, hR_sR, hR_sI2]) | _ + 1, e9 => by cases e9) (kk _ _ rfl rfl)
theorem gd_7 {X : Ev} {G : GG} {d : Nat} {lv : List (Nat × Value)} {rest : List Value} {h : HS} {Q0 : State → Prop} {v0 : Int32} {v1 : Int32} {r2 : Option Nat} (C : HC X G RX0 cX0_listLook d) (hnd : (ev_s X).methodNamed? yX0_listLook = some (ev_m X)) (h1 : hZ h + 1 ≤ gCC G) (h2 : hL h + 3 ≤ gSS G) (hc : (rest.map fun v => v.category).sum ≤ 8) (hdg : decode cX0_listLook 3 = .ok (.invokedynamic 39, 5)) (kk : ∀ (a : Nat) (h2 : HS), a = hZ h → h2 = sR (sI (sI (hNew h 207 0 3) 91 (hZ h) v0) 92 (hZ h) v1) 93 (hZ h) r2 → GH X G h2 Q0 (3 + 5) lv (.ref a :: rest)) : GH X G h Q0 3 lv (va_rf r2 :: .int v1 :: .int v0 :: rest) :=
  gh_lamM (tys := [Jvm.ClassFile.FieldType.int, Jvm.ClassFile.FieldType.int, (Jvm.ClassFile.FieldType.object "GathersAllFaults$Look")]) (vals := [.int v0, .int v1, va_rf r2]) (h' := sR (sI (sI (hNew h 207 0 3) 91 (hZ h) v0) 92 (hZ h) v1) 93 (hZ h) r2) C (.tail _ (.tail _ (.tail _ (.tail _ (.tail _ (.tail _ (.head _)))))) : (7, siteWord_1_7) ∈ siteL) ⟨by decide, by decide⟩ LK_7 rfl (by decide) hnd ⟨rfl, rfl⟩ rfl ⟨rfl, rfl⟩ (congr (congrArg List.cons rfl) (congr (congrArg List.cons rfl) (congr (congrArg List.cons nar_o) rfl))) (fun j t v ht hv => match j, ht, hv with | 0, ht9, hv9 => by have e1 := Option.some.inj ht9; have e2 := Option.some.inj hv9; subst e1; subst e2; exact rfl | 1, ht9, hv9 => by have e1 := Option.some.inj ht9; have e2 := Option.some.inj hv9; subst e1; subst e2; exact rfl | 2, ht9, hv9 => by have e1 := Option.some.inj ht9; have e2 := Option.some.inj hv9; subst e1; subst e2; exact fit_o | _ + 3, ht9, hv9 => by cases ht9) h1 h2 ⟨hc, by simp [va_rf_cat, cat_i]⟩ hdg rfl rfl rfl (fun b hb => (hcell_sR hb).trans ((hcell_sI hb).trans ((hcell_sI hb).trans (hcell_new hb)))) (fun f b hb => (hval_sR (fun z => hb z.2)).trans ((hval_sI (fun z => hb z.2)).trans ((hval_sI (fun z => hb z.2)).trans (hval_new hb)))) (fun g b hb => by simp [hI_sI, hI_sR2, hI_new, hb]) (fun k f e => match k, e with | 0, e9 => by have e1 := Option.some.inj e9; subst e1; exact congrArg some (by show Value.int _ = Value.int (hI _ _ _); simp [hI_sI, hI_sR2, hR_sR, hR_sI2]) | 1, e9 => by have e1 := Option.some.inj e9; subst e1; exact congrArg some (by show Value.int _ = Value.int (hI _ _ _); simp [hI_sI, hI_sR2, hR_sR, hR_sI2]) | 2, e9 => by have e1 := Option.some.inj e9; subst e1; exact congrArg some (by show va_rf _ = va_rf (hR _ _ _); simp [hI_sI, hI_sR2, hR_sR, hR_sI2]) | _ + 3, e9 => by cases e9) (kk _ _ rfl rfl)
theorem gd_8 {X : Ev} {G : GG} {d : Nat} {lv : List (Nat × Value)} {rest : List Value} {h : HS} {Q0 : State → Prop} {r0 : Option Nat} (C : HC X G RX0 cX0_onceLook d) (hnd : (ev_s X).methodNamed? yX0_onceLook = some (ev_m X)) (h1 : hZ h + 1 ≤ gCC G) (h2 : hL h + 1 ≤ gSS G) (hc : (rest.map fun v => v.category).sum ≤ 8) (hdg : decode cX0_onceLook 1 = .ok (.invokedynamic 42, 5)) (kk : ∀ (a : Nat) (h2 : HS), a = hZ h → h2 = sR (hNew h 208 0 1) 94 (hZ h) r0 → GH X G h2 Q0 (1 + 5) lv (.ref a :: rest)) : GH X G h Q0 1 lv (va_rf r0 :: rest) :=
  gh_lamM (tys := [(Jvm.ClassFile.FieldType.object "GathersAllFaults$Look")]) (vals := [va_rf r0]) (h' := sR (hNew h 208 0 1) 94 (hZ h) r0) C (.tail _ (.tail _ (.tail _ (.tail _ (.tail _ (.tail _ (.tail _ (.head _))))))) : (8, siteWord_1_8) ∈ siteL) ⟨by decide, by decide⟩ LK_8 rfl (by decide) hnd ⟨rfl, rfl⟩ rfl ⟨rfl, rfl⟩ (congr (congrArg List.cons nar_o) rfl) (fun j t v ht hv => match j, ht, hv with | 0, ht9, hv9 => by have e1 := Option.some.inj ht9; have e2 := Option.some.inj hv9; subst e1; subst e2; exact fit_o | _ + 1, ht9, hv9 => by cases ht9) h1 h2 ⟨hc, by simp [va_rf_cat, cat_i]⟩ hdg rfl rfl rfl (fun b hb => (hcell_sR hb).trans (hcell_new hb)) (fun f b hb => (hval_sR (fun z => hb z.2)).trans (hval_new hb)) (fun g b hb => by simp [hI_sI, hI_sR2, hI_new, hb]) (fun k f e => match k, e with | 0, e9 => by have e1 := Option.some.inj e9; subst e1; exact congrArg some (by show va_rf _ = va_rf (hR _ _ _); simp [hI_sI, hI_sR2, hR_sR, hR_sI2]) | _ + 1, e9 => by cases e9) (kk _ _ rfl rfl)
theorem gd_9 {X : Ev} {G : GG} {d : Nat} {lv : List (Nat × Value)} {rest : List Value} {h : HS} {Q0 : State → Prop} {r0 : Option Nat} {r1 : Option Nat} (C : HC X G RX0 cX0_eitherLook d) (hnd : (ev_s X).methodNamed? yX0_eitherLook = some (ev_m X)) (h1 : hZ h + 1 ≤ gCC G) (h2 : hL h + 2 ≤ gSS G) (hc : (rest.map fun v => v.category).sum ≤ 8) (hdg : decode cX0_eitherLook 2 = .ok (.invokedynamic 45, 5)) (kk : ∀ (a : Nat) (h2 : HS), a = hZ h → h2 = sR (sR (hNew h 209 0 2) 95 (hZ h) r0) 96 (hZ h) r1 → GH X G h2 Q0 (2 + 5) lv (.ref a :: rest)) : GH X G h Q0 2 lv (va_rf r1 :: va_rf r0 :: rest) :=
  gh_lamM (tys := [(Jvm.ClassFile.FieldType.object "GathersAllFaults$Look"), (Jvm.ClassFile.FieldType.object "GathersAllFaults$Look")]) (vals := [va_rf r0, va_rf r1]) (h' := sR (sR (hNew h 209 0 2) 95 (hZ h) r0) 96 (hZ h) r1) C (.tail _ (.tail _ (.tail _ (.tail _ (.tail _ (.tail _ (.tail _ (.tail _ (.head _)))))))) : (9, siteWord_1_9) ∈ siteL) ⟨by decide, by decide⟩ LK_9 rfl (by decide) hnd ⟨rfl, rfl⟩ rfl ⟨rfl, rfl⟩ (congr (congrArg List.cons nar_o) (congr (congrArg List.cons nar_o) rfl)) (fun j t v ht hv => match j, ht, hv with | 0, ht9, hv9 => by have e1 := Option.some.inj ht9; have e2 := Option.some.inj hv9; subst e1; subst e2; exact fit_o | 1, ht9, hv9 => by have e1 := Option.some.inj ht9; have e2 := Option.some.inj hv9; subst e1; subst e2; exact fit_o | _ + 2, ht9, hv9 => by cases ht9) h1 h2 ⟨hc, by simp [va_rf_cat, cat_i]⟩ hdg rfl rfl rfl (fun b hb => (hcell_sR hb).trans ((hcell_sR hb).trans (hcell_new hb))) (fun f b hb => (hval_sR (fun z => hb z.2)).trans ((hval_sR (fun z => hb z.2)).trans (hval_new hb))) (fun g b hb => by simp [hI_sI, hI_sR2, hI_new, hb]) (fun k f e => match k, e with | 0, e9 => by have e1 := Option.some.inj e9; subst e1; exact congrArg some (by show va_rf _ = va_rf (hR _ _ _); simp [hI_sI, hI_sR2, hR_sR, hR_sI2]) | 1, e9 => by have e1 := Option.some.inj e9; subst e1; exact congrArg some (by show va_rf _ = va_rf (hR _ _ _); simp [hI_sI, hI_sR2, hR_sR, hR_sI2]) | _ + 2, e9 => by cases e9) (kk _ _ rfl rfl)
theorem gd_10 {X : Ev} {G : GG} {d : Nat} {lv : List (Nat × Value)} {rest : List Value} {h : HS} {Q0 : State → Prop} {r0 : Option Nat} (C : HC X G RX3 cX3_again d) (hnd : (ev_s X).methodNamed? yX3_again = some (ev_m X)) (h1 : hZ h + 1 ≤ gCC G) (h2 : hL h + 1 ≤ gSS G) (hc : (rest.map fun v => v.category).sum ≤ 8) (hdg : decode cX3_again 1 = .ok (.invokedynamic 28, 5)) (kk : ∀ (a : Nat) (h2 : HS), a = hZ h → h2 = sR (hNew h 210 0 1) 97 (hZ h) r0 → GH X G h2 Q0 (1 + 5) lv (.ref a :: rest)) : GH X G h Q0 1 lv (va_rf r0 :: rest) :=
  gh_lamM (tys := [(Jvm.ClassFile.FieldType.object "GathersAllFaults$Compiled")]) (vals := [va_rf r0]) (h' := sR (hNew h 210 0 1) 97 (hZ h) r0) C (.tail _ (.tail _ (.tail _ (.tail _ (.tail _ (.tail _ (.tail _ (.tail _ (.tail _ (.head _))))))))) : (10, siteWord_1_10) ∈ siteL) ⟨by decide, by decide⟩ LK_10 rfl (by decide) hnd ⟨rfl, rfl⟩ rfl ⟨rfl, rfl⟩ (congr (congrArg List.cons nar_o) rfl) (fun j t v ht hv => match j, ht, hv with | 0, ht9, hv9 => by have e1 := Option.some.inj ht9; have e2 := Option.some.inj hv9; subst e1; subst e2; exact fit_o | _ + 1, ht9, hv9 => by cases ht9) h1 h2 ⟨hc, by simp [va_rf_cat, cat_i]⟩ hdg rfl rfl rfl (fun b hb => (hcell_sR hb).trans (hcell_new hb)) (fun f b hb => (hval_sR (fun z => hb z.2)).trans (hval_new hb)) (fun g b hb => by simp [hI_sI, hI_sR2, hI_new, hb]) (fun k f e => match k, e with | 0, e9 => by have e1 := Option.some.inj e9; subst e1; exact congrArg some (by show va_rf _ = va_rf (hR _ _ _); simp [hI_sI, hI_sR2, hR_sR, hR_sI2]) | _ + 1, e9 => by cases e9) (kk _ _ rfl rfl)
theorem gd_11 {X : Ev} {G : GG} {d : Nat} {lv : List (Nat × Value)} {rest : List Value} {h : HS} {Q0 : State → Prop} (C : HC X G RX9 cX9_check d) (hnd : (ev_s X).methodNamed? yX9_check = some (ev_m X)) (hc : (rest.map fun v => v.category).sum ≤ 8) (hdg : decode cX9_check 375 = .ok (.invokedynamic 177, 5)) (kk : ∀ a : Nat, hT h a = 311 → GH X G h Q0 (375 + 5) lv (.ref a :: rest)) : GH X G h Q0 375 lv rest := gh_lamC C (.tail _ (.tail _ (.tail _ (.tail _ (.tail _ (.tail _ (.tail _ (.tail _ (.tail _ (.tail _ (.head _)))))))))) : (11, siteWord_1_11) ∈ siteL) (by decide) rfl hnd rfl hc hdg kk
