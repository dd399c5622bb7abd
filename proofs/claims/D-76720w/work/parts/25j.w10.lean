set_option maxRecDepth 100000
/-! 180: GathersAllFaults$Refused.number()I -/
def wb_X8_number (cl : CT) (lm : Nat × Nat) (Q : QT) (E : ET) (x0 : Nat) (h : HS) : Prop := (hT h x0 = 16) ∧ (Q (some (.int (hI h 55 x0))) h)
theorem wx_X8_number {l : Launch} (hst : l.stackTraces = false) {G : GG} {cl : CT} {lm : Nat × Nat} {Q : QT} {E : ET} {d2 : Nat} (hCl : CallsOK l G d2 cl ∧ hLm G lm ∧ 8 ≤ d2 ∧ LamsOK l G d2 cl) {x0 : Nat} {h : HS} (hw : wb_X8_number cl lm Q E x0 h) : HMet l G yX8_number (ws_ yX8_number cX8_number 1 ((Option.some Jvm.ClassFile.FieldType.int))) (d2 + 1) [.ref x0] h Q E := by
  refine gh_met (own := RX8) rfl (by decide +kernel) hst (by simp only [lg_sl_i, lg_sl_r, lg_sl_a, lg_sl_2, lg_sl_f, lg_sl_0]; decide) (fun X hXl hXn hret hnm hTb h0 eh C S0 => ?_)
  subst hXl
  have hlm := hCl.2.1
  have hd8 := hCl.2.2.1
  have hd2 : 1 ≤ d2 := Nat.le_trans (by decide) hd8
  have hLa := hCl.2.2.2
  have hd1 : 1 ≤ d2 + 1 := Nat.le_add_left _ _
  have hC9 := hCl
  replace hCl := hCl.1
  have hini : True := trivial
  unfold wb_X8_number at hw
  refine GK.sub (lv' := [(0, .ref x0)]) [0] (by simp only [lv_args_i, lv_args_r, lv_args_a, lv_args_l, lv_args_f, lv_args_0]; rfl) ?_
  refine gk_aload_n (pc := 0) C.1 0 dX8_number_0 rfl rfl ?_
  obtain ⟨ht, hw⟩ := hw
  refine gf_X8_7 (pc := 1) C ht dX8_number_1 ?_
  exact gh_iret (pc := 4) C S0 hret dX8_number_4 hw
/-! 181: GathersAllFaults$Reader.check(LGathersAllFaults$Compiled;Z)LGathersAllFaults$Look; -/
def wb_X9_check_225 (cl : CT) (lm : Nat × Nat) (Q : QT) (E : ET) (x3 : Int32) (x5 : Int32) (x6 : Int32) (s0 : Nat) (s1 : Int32) (h : HS) : Prop := dp_Reader_wrong cl s0 [.int s1, .int x3] h (gV (fun h_1 => cl 106 [.int x5, .int x6] h_1 (gR (fun r_5 h_4 => Q (some (va_rf r_5)) h_4)) E)) E
theorem wk_X9_check_225 {X : Ev} {G : GG} {cl : CT} {lm : Nat × Nat} {Q : QT} {E : ET} {h0 : HS} {d2 : Nat} (C : HC X G RX9 cX9_check (d2 + 1)) (hCl : CallsOK (ev_l X) G d2 cl ∧ hLm G lm ∧ 8 ≤ d2 ∧ LamsOK (ev_l X) G d2 cl) (S0 : HS0 X h0) (hret : (ev_h X).sig.returnType = (Option.some (Jvm.ClassFile.FieldType.object "GathersAllFaults$Look"))) (hXn : ev_n X = 10) (hini : (ev_s X).methodNamed? yX9_check = some (ev_m X)) (hTb : (ev_c X).exceptionTable.toList = []) : ∀ (x3 : Int32) (x5 : Int32) (x6 : Int32) (s0 : Nat) (s1 : Int32) (h : HS), wb_X9_check_225 cl lm Q E x3 x5 x6 s0 s1 h → GH X G h (hQ X G h0 Q E) 225 [(3, .int x3), (5, .int x5), (6, .int x6)] [.int s1, .ref s0] := by
  have hlm := hCl.2.1
  have hd8 := hCl.2.2.1
  have hd2 : 1 ≤ d2 := Nat.le_trans (by decide) hd8
  have hLa := hCl.2.2.2
  have hd1 : 1 ≤ d2 + 1 := Nat.le_add_left _ _
  have hC9 := hCl
  replace hCl := hCl.1
  intro x3 x5 x6 s0 s1 h hw
  unfold wb_X9_check_225 at hw
  refine gk_iload_n (pc := 225) C.1 0 dX9_check_225 rfl rfl ?_
  refine gc_X9_63 (pc := 226) (As := [.int s1, .int x3]) (rest := []) C hCl (Nat.le_refl _) hw rfl rfl (Nat.le_of_ble_eq_true rfl) dX9_check_226 (fun v9 h_1 hp => ?_) (fun q_2 h_3 hw ht9 => ?_)
  rotate_left
  · exact gx_out C S0 (by rw [hTb]; decide) ht9 hw
  clear hw
  obtain ⟨rfl, hw⟩ := hp
  refine GK.at (p2 := 229) rfl ?_
  refine gk_iload (pc := 229) C.1 1 dX9_check_229 rfl ?_
  refine gk_iload (pc := 231) C.1 2 dX9_check_231 rfl ?_
  refine gc_X9_140 (pc := 233) (As := [.int x5, .int x6]) (rest := []) C hCl (Nat.le_refl _) hw rfl rfl (Nat.le_of_ble_eq_true rfl) dX9_check_233 (fun v9 h_4 hp => ?_) (fun q_6 h_7 hw ht9 => ?_)
  rotate_left
  · exact gx_out C S0 (by rw [hTb]; decide) ht9 hw
  clear hw
  obtain ⟨r_5, rfl, hw⟩ := hp
  refine GK.at (p2 := 236) rfl ?_
  exact gh_aret (pc := 236) (r := r_5) C S0 hret (Or.inl ⟨_, rfl⟩) dX9_check_236 hw
def wb_X9_check_249 (cl : CT) (lm : Nat × Nat) (Q : QT) (E : ET) (x0 : Nat) (x1 : Option Nat) (x2 : Int32) (s0 : Int32) (h : HS) : Prop := dp_Reader_check cl x0 [va_rf x1, .int x2] h (gR (fun r_2 h_1 => cl 134 [.int s0, va_rf r_2] h_1 (gR (fun r_6 h_5 => Q (some (va_rf r_6)) h_5)) E)) E
theorem wk_X9_check_249 {X : Ev} {G : GG} {cl : CT} {lm : Nat × Nat} {Q : QT} {E : ET} {h0 : HS} {d2 : Nat} (C : HC X G RX9 cX9_check (d2 + 1)) (hCl : CallsOK (ev_l X) G d2 cl ∧ hLm G lm ∧ 8 ≤ d2 ∧ LamsOK (ev_l X) G d2 cl) (S0 : HS0 X h0) (hret : (ev_h X).sig.returnType = (Option.some (Jvm.ClassFile.FieldType.object "GathersAllFaults$Look"))) (hXn : ev_n X = 10) (hini : (ev_s X).methodNamed? yX9_check = some (ev_m X)) (hTb : (ev_c X).exceptionTable.toList = []) : ∀ (x0 : Nat) (x1 : Option Nat) (x2 : Int32) (s0 : Int32) (h : HS), wb_X9_check_249 cl lm Q E x0 x1 x2 s0 h → GH X G h (hQ X G h0 Q E) 249 [(0, .ref x0), (1, va_rf x1), (2, .int x2)] [.int s0] := by
  have hlm := hCl.2.1
  have hd8 := hCl.2.2.1
  have hd2 : 1 ≤ d2 := Nat.le_trans (by decide) hd8
  have hLa := hCl.2.2.2
  have hd1 : 1 ≤ d2 + 1 := Nat.le_add_left _ _
  have hC9 := hCl
  replace hCl := hCl.1
  intro x0 x1 x2 s0 h hw
  unfold wb_X9_check_249 at hw
  refine gk_aload_n (pc := 249) C.1 0 dX9_check_249 rfl rfl ?_
  refine gk_qload_n (pc := 250) C.1 1 dX9_check_250 rfl rfl ?_
  refine gk_iload_n (pc := 251) C.1 2 dX9_check_251 rfl rfl ?_
  refine gc_X9_144 (pc := 252) (As := [va_rf x1, .int x2]) (rest := [.int s0]) C hCl (Nat.le_refl _) hw rfl rfl (Nat.le_of_ble_eq_true rfl) dX9_check_252 (fun v9 h_1 hp => ?_) (fun q_3 h_4 hw ht9 => ?_)
  rotate_left
  · exact gx_out C S0 (by rw [hTb]; decide) ht9 hw
  clear hw
  obtain ⟨r_2, rfl, hw⟩ := hp
  refine GK.at (p2 := 255) rfl ?_
  refine gc_X9_148 (pc := 255) (As := [.int s0, va_rf r_2]) (rest := []) C hCl (Nat.le_refl _) hw rfl rfl (Nat.le_of_ble_eq_true rfl) dX9_check_255 (fun v9 h_5 hp => ?_) (fun q_7 h_8 hw ht9 => ?_)
  rotate_left
  · exact gx_out C S0 (by rw [hTb]; decide) ht9 hw
  clear hw
  obtain ⟨r_6, rfl, hw⟩ := hp
  refine GK.at (p2 := 258) rfl ?_
  exact gh_aret (pc := 258) (r := r_6) C S0 hret (Or.inl ⟨_, rfl⟩) dX9_check_258 hw
def wb_X9_check_237 (cl : CT) (lm : Nat × Nat) (Q : QT) (E : ET) (x0 : Nat) (x1 : Option Nat) (x2 : Int32) (x4 : Int32) (h : HS) : Prop := ((¬ x4 = 33 → (wb_X9_check_249 cl lm Q E x0 x1 x2 0 h)) ∧ (x4 = 33 → (wb_X9_check_249 cl lm Q E x0 x1 x2 1 h)))
theorem wk_X9_check_237 {X : Ev} {G : GG} {cl : CT} {lm : Nat × Nat} {Q : QT} {E : ET} {h0 : HS} {d2 : Nat} (C : HC X G RX9 cX9_check (d2 + 1)) (hCl : CallsOK (ev_l X) G d2 cl ∧ hLm G lm ∧ 8 ≤ d2 ∧ LamsOK (ev_l X) G d2 cl) (S0 : HS0 X h0) (hret : (ev_h X).sig.returnType = (Option.some (Jvm.ClassFile.FieldType.object "GathersAllFaults$Look"))) (hXn : ev_n X = 10) (hini : (ev_s X).methodNamed? yX9_check = some (ev_m X)) (hTb : (ev_c X).exceptionTable.toList = []) : ∀ (x0 : Nat) (x1 : Option Nat) (x2 : Int32) (x4 : Int32) (h : HS), wb_X9_check_237 cl lm Q E x0 x1 x2 x4 h → GH X G h (hQ X G h0 Q E) 237 [(0, .ref x0), (1, va_rf x1), (2, .int x2), (4, .int x4)] [] := by
  have hlm := hCl.2.1
  have hd8 := hCl.2.2.1
  have hd2 : 1 ≤ d2 := Nat.le_trans (by decide) hd8
  have hLa := hCl.2.2.2
  have hd1 : 1 ≤ d2 + 1 := Nat.le_add_left _ _
  have hC9 := hCl
  replace hCl := hCl.1
  intro x0 x1 x2 x4 h hw
  unfold wb_X9_check_237 at hw
  refine gk_iload (pc := 237) C.1 3 dX9_check_237 rfl ?_
  refine gk_bipush (pc := 239) (v := 33) C.1 dX9_check_239 (by decide) ?_
  refine gk_icmp_ne (pc := 241) (tgt := 248) C.1 dX9_check_241 (by decide) (fun c_1 => ?_) (fun c_1 => ?_)
  · replace hw := hw.1 c_1
    refine gk_iconst (pc := 248) (v := 0) C.1 dX9_check_248 (by decide) ?_
    refine GK.sub (lv' := [(0, .ref x0), (1, va_rf x1), (2, .int x2)]) [0, 1, 2] rfl ?_
    exact wk_X9_check_249 C hC9 S0 hret hXn hini hTb  _ _ _ _ _ hw
  · replace hw := hw.2 c_1
    refine gk_iconst (pc := 244) (v := 1) C.1 dX9_check_244 (by decide) ?_
    refine gk_goto (pc := 245) (tgt := 249) C.1 dX9_check_245 (by decide) ?_
    refine GK.sub (lv' := [(0, .ref x0), (1, va_rf x1), (2, .int x2)]) [0, 1, 2] rfl ?_
    exact wk_X9_check_249 C hC9 S0 hret hXn hini hTb  _ _ _ _ _ hw
def wb_X9_check_290 (cl : CT) (lm : Nat × Nat) (Q : QT) (E : ET) (x0 : Nat) (x1 : Option Nat) (x3 : Int32) (x7 : Int32) (x8 : Int32) (s0 : Nat) (s1 : Int32) (h : HS) : Prop := dp_Reader_wrong cl s0 [.int s1, .int x3] h (gV (fun h_1 => dp_Reader_check cl x0 [va_rf x1, .int 1] h_1 (gR (fun r_5 h_4 => cl 94 [.int x7, .int x8, va_rf r_5] h_4 (gR (fun r_9 h_8 => Q (some (va_rf r_9)) h_8)) E)) E)) E
theorem wk_X9_check_290 {X : Ev} {G : GG} {cl : CT} {lm : Nat × Nat} {Q : QT} {E : ET} {h0 : HS} {d2 : Nat} (C : HC X G RX9 cX9_check (d2 + 1)) (hCl : CallsOK (ev_l X) G d2 cl ∧ hLm G lm ∧ 8 ≤ d2 ∧ LamsOK (ev_l X) G d2 cl) (S0 : HS0 X h0) (hret : (ev_h X).sig.returnType = (Option.some (Jvm.ClassFile.FieldType.object "GathersAllFaults$Look"))) (hXn : ev_n X = 10) (hini : (ev_s X).methodNamed? yX9_check = some (ev_m X)) (hTb : (ev_c X).exceptionTable.toList = []) : ∀ (x0 : Nat) (x1 : Option Nat) (x3 : Int32) (x7 : Int32) (x8 : Int32) (s0 : Nat) (s1 : Int32) (h : HS), wb_X9_check_290 cl lm Q E x0 x1 x3 x7 x8 s0 s1 h → GH X G h (hQ X G h0 Q E) 290 [(0, .ref x0), (1, va_rf x1), (3, .int x3), (7, .int x7), (8, .int x8)] [.int s1, .ref s0] := by
  have hlm := hCl.2.1
  have hd8 := hCl.2.2.1
  have hd2 : 1 ≤ d2 := Nat.le_trans (by decide) hd8
  have hLa := hCl.2.2.2
  have hd1 : 1 ≤ d2 + 1 := Nat.le_add_left _ _
  have hC9 := hCl
  replace hCl := hCl.1
  intro x0 x1 x3 x7 x8 s0 s1 h hw
  unfold wb_X9_check_290 at hw
  refine gk_iload_n (pc := 290) C.1 2 dX9_check_290 rfl rfl ?_
  refine gc_X9_63 (pc := 291) (As := [.int s1, .int x3]) (rest := []) C hCl (Nat.le_refl _) hw rfl rfl (Nat.le_of_ble_eq_true rfl) dX9_check_291 (fun v9 h_1 hp => ?_) (fun q_2 h_3 hw ht9 => ?_)
  rotate_left
  · exact gx_out C S0 (by rw [hTb]; decide) ht9 hw
  clear hw
  obtain ⟨rfl, hw⟩ := hp
  refine GK.at (p2 := 294) rfl ?_
  refine gk_iload (pc := 294) C.1 3 dX9_check_294 rfl ?_
  refine gk_iload (pc := 296) C.1 4 dX9_check_296 rfl ?_
  refine gk_aload_n (pc := 298) C.1 0 dX9_check_298 rfl rfl ?_
  refine gk_qload_n (pc := 299) C.1 1 dX9_check_299 rfl rfl ?_
  refine gk_iconst (pc := 300) (v := 1) C.1 dX9_check_300 (by decide) ?_
  refine gc_X9_144 (pc := 301) (As := [va_rf x1, .int 1]) (rest := [.int x8, .int x7]) C hCl (Nat.le_refl _) hw rfl rfl (Nat.le_of_ble_eq_true rfl) dX9_check_301 (fun v9 h_4 hp => ?_) (fun q_6 h_7 hw ht9 => ?_)
  rotate_left
  · exact gx_out C S0 (by rw [hTb]; decide) ht9 hw
  clear hw
  obtain ⟨r_5, rfl, hw⟩ := hp
  refine GK.at (p2 := 304) rfl ?_
  refine gc_X9_156 (pc := 304) (As := [.int x7, .int x8, va_rf r_5]) (rest := []) C hCl (Nat.le_refl _) hw rfl rfl (Nat.le_of_ble_eq_true rfl) dX9_check_304 (fun v9 h_8 hp => ?_) (fun q_10 h_11 hw ht9 => ?_)
  rotate_left
  · exact gx_out C S0 (by rw [hTb]; decide) ht9 hw
  clear hw
  obtain ⟨r_9, rfl, hw⟩ := hp
  refine GK.at (p2 := 307) rfl ?_
  exact gh_aret (pc := 307) (r := r_9) C S0 hret (Or.inl ⟨_, rfl⟩) dX9_check_307 hw
def wb_X9_check_366 (cl : CT) (lm : Nat × Nat) (Q : QT) (E : ET) (x1 : Option Nat) (x3 : Int32) (s0 : Nat) (s1 : Int32) (h : HS) : Prop := dp_Reader_wrong cl s0 [.int s1, .int x3] h (gV (fun h_1 => ∃ a_4 : Nat, x1 = some a_4 ∧ (dp_Compiled_again cl a_4 [] h_1 (gR (fun r_6 h_5 => Q (some (va_rf r_6)) h_5)) E))) E
theorem wk_X9_check_366 {X : Ev} {G : GG} {cl : CT} {lm : Nat × Nat} {Q : QT} {E : ET} {h0 : HS} {d2 : Nat} (C : HC X G RX9 cX9_check (d2 + 1)) (hCl : CallsOK (ev_l X) G d2 cl ∧ hLm G lm ∧ 8 ≤ d2 ∧ LamsOK (ev_l X) G d2 cl) (S0 : HS0 X h0) (hret : (ev_h X).sig.returnType = (Option.some (Jvm.ClassFile.FieldType.object "GathersAllFaults$Look"))) (hXn : ev_n X = 10) (hini : (ev_s X).methodNamed? yX9_check = some (ev_m X)) (hTb : (ev_c X).exceptionTable.toList = []) : ∀ (x1 : Option Nat) (x3 : Int32) (s0 : Nat) (s1 : Int32) (h : HS), wb_X9_check_366 cl lm Q E x1 x3 s0 s1 h → GH X G h (hQ X G h0 Q E) 366 [(1, va_rf x1), (3, .int x3)] [.int s1, .ref s0] := by
  have hlm := hCl.2.1
  have hd8 := hCl.2.2.1
  have hd2 : 1 ≤ d2 := Nat.le_trans (by decide) hd8
  have hLa := hCl.2.2.2
  have hd1 : 1 ≤ d2 + 1 := Nat.le_add_left _ _
  have hC9 := hCl
  replace hCl := hCl.1
  intro x1 x3 s0 s1 h hw
  unfold wb_X9_check_366 at hw
  refine gk_iload_n (pc := 366) C.1 1 dX9_check_366 rfl rfl ?_
  refine gc_X9_63 (pc := 367) (As := [.int s1, .int x3]) (rest := []) C hCl (Nat.le_refl _) hw rfl rfl (Nat.le_of_ble_eq_true rfl) dX9_check_367 (fun v9 h_1 hp => ?_) (fun q_2 h_3 hw ht9 => ?_)
  rotate_left
  · exact gx_out C S0 (by rw [hTb]; decide) ht9 hw
  clear hw
  obtain ⟨rfl, hw⟩ := hp
  refine GK.at (p2 := 370) rfl ?_
  refine gk_qload_n (pc := 370) C.1 0 dX9_check_370 rfl rfl ?_
  obtain ⟨a_4, rfl, hw⟩ := hw
  refine gc_X9_171 (pc := 371) (As := []) (rest := []) C hCl (Nat.le_refl _) hw rfl rfl (Nat.le_of_ble_eq_true rfl) dX9_check_371 (fun v9 h_5 hp => ?_) (fun q_7 h_8 hw ht9 => ?_)
  rotate_left
  · exact gx_out C S0 (by rw [hTb]; decide) ht9 hw
  clear hw
  obtain ⟨r_6, rfl, hw⟩ := hp
  refine GK.at (p2 := 374) rfl ?_
  exact gh_aret (pc := 374) (r := r_6) C S0 hret (Or.inl ⟨_, rfl⟩) dX9_check_374 hw
def wb_X9_check_361 (cl : CT) (lm : Nat × Nat) (Q : QT) (E : ET) (x1 : Option Nat) (x3 : Int32) (s0 : Nat) (h : HS) : Prop := wb_X9_check_366 cl lm Q E x1 x3 s0 1 h
theorem wk_X9_check_361 {X : Ev} {G : GG} {cl : CT} {lm : Nat × Nat} {Q : QT} {E : ET} {h0 : HS} {d2 : Nat} (C : HC X G RX9 cX9_check (d2 + 1)) (hCl : CallsOK (ev_l X) G d2 cl ∧ hLm G lm ∧ 8 ≤ d2 ∧ LamsOK (ev_l X) G d2 cl) (S0 : HS0 X h0) (hret : (ev_h X).sig.returnType = (Option.some (Jvm.ClassFile.FieldType.object "GathersAllFaults$Look"))) (hXn : ev_n X = 10) (hini : (ev_s X).methodNamed? yX9_check = some (ev_m X)) (hTb : (ev_c X).exceptionTable.toList = []) : ∀ (x1 : Option Nat) (x3 : Int32) (s0 : Nat) (h : HS), wb_X9_check_361 cl lm Q E x1 x3 s0 h → GH X G h (hQ X G h0 Q E) 361 [(1, va_rf x1), (3, .int x3)] [.ref s0] := by
  have hlm := hCl.2.1
  have hd8 := hCl.2.2.1
  have hd2 : 1 ≤ d2 := Nat.le_trans (by decide) hd8
  have hLa := hCl.2.2.2
  have hd1 : 1 ≤ d2 + 1 := Nat.le_add_left _ _
  have hC9 := hCl
  replace hCl := hCl.1
  intro x1 x3 s0 h hw
  unfold wb_X9_check_361 at hw
  refine gk_iconst (pc := 361) (v := 1) C.1 dX9_check_361 (by decide) ?_
  refine gk_goto (pc := 362) (tgt := 366) C.1 dX9_check_362 (by decide) ?_
  refine GK.sub (lv' := [(1, va_rf x1), (3, .int x3)]) [0, 1] rfl ?_
  exact wk_X9_check_366 C hC9 S0 hret hXn hini hTb  _ _ _ _ _ hw
def wb_X9_check_109 (cl : CT) (lm : Nat × Nat) (Q : QT) (E : ET) (x0 : Nat) (x1 : Option Nat) (x2 : Int32) (x3 : Int32) (x4 : Int32) (s0 : Nat) (s1 : Int32) (h : HS) : Prop := dp_Reader_mustStand cl s0 [.int s1] h (gV (fun h_1 => (hT h_1 x0 = 15) ∧ ((hT h_1 x0 = 15) ∧ (∀ h_4 : HS, h_4 = sI h_1 49 x0 ((hI h_1 49 x0) + 1) → (((x4 = 33 → (wb_X9_check_237 cl lm Q E x0 x1 x2 x4 h_4)) ∧ (¬ x4 = 33 → ((x4 = 35 → (dp_Reader_pair cl x0 [] h_4 (gI (fun r_8 h_7 => dp_Reader_pair cl x0 [] h_7 (gI (fun r_12 h_11 => ((r_8 ≤ r_12 → (wb_X9_check_225 cl lm Q E x3 r_8 r_12 x0 0 h_11)) ∧ (¬ r_8 ≤ r_12 → (wb_X9_check_225 cl lm Q E x3 r_8 r_12 x0 1 h_11))))) E)) E)) ∧ (¬ x4 = 35 → ((x4 = 38 → (dp_Reader_check cl x0 [va_rf x1, .int x2] h_4 (gR (fun r_18 h_17 => cl 114 [va_rf r_18] h_17 (gR (fun r_22 h_21 => Q (some (va_rf r_22)) h_21)) E)) E)) ∧ (¬ x4 = 38 → ((x4 = 47 → (dp_Reader_check cl x0 [va_rf x1, .int x2] h_4 (gR (fun r_27 h_26 => dp_Reader_check cl x0 [va_rf x1, .int x2] h_26 (gR (fun r_31 h_30 => cl 64 [va_rf r_27, va_rf r_31] h_30 (gR (fun r_35 h_34 => Q (some (va_rf r_35)) h_34)) E)) E)) E)) ∧ (¬ x4 = 47 → ((x4 = 64 → (dp_Reader_digit cl x0 [] h_4 (gI (fun r_40 h_39 => dp_Reader_digit cl x0 [] h_39 (gI (fun r_44 h_43 => ((r_40 ≤ r_44 → (wb_X9_check_290 cl lm Q E x0 x1 x3 r_40 r_44 x0 0 h_43)) ∧ (¬ r_40 ≤ r_44 → (wb_X9_check_290 cl lm Q E x0 x1 x3 r_40 r_44 x0 1 h_43))))) E)) E)) ∧ (¬ x4 = 64 → ((x4 = 94 → ((hT h_4 x0 = 15) ∧ ((hT h_4 x0 = 15) ∧ (∀ h_49 : HS, h_49 = sI h_4 52 x0 ((hI h_4 52 x0) + 1) → (((x2 = 0 → (wb_X9_check_361 cl lm Q E x1 x3 x0 h_49)) ∧ (¬ x2 = 0 → ((hT h_49 x0 = 15) ∧ ((((hI h_49 52 x0) ≤ 3 → (wb_X9_check_366 cl lm Q E x1 x3 x0 0 h_49)) ∧ (¬ (hI h_49 52 x0) ≤ 3 → (wb_X9_check_361 cl lm Q E x1 x3 x0 h_49)))))))))))) ∧ (¬ x4 = 94 → ((x4 = 123 → (dp_Reader_record cl x0 [va_rf x1] h_4 (gR (fun r_54 h_53 => Q (some (va_rf r_54)) h_53)) E)) ∧ (¬ x4 = 123 → ((x4 = 126 → (wb_X9_check_237 cl lm Q E x0 x1 x2 x4 h_4)) ∧ (¬ x4 = 126 → (∀ a_58 : Nat, hT h_4 a_58 = 311 → (Q (some (va_rf (some a_58))) h_4))))))))))))))))))))))) E
theorem wk_X9_check_109 {X : Ev} {G : GG} {cl : CT} {lm : Nat × Nat} {Q : QT} {E : ET} {h0 : HS} {d2 : Nat} (C : HC X G RX9 cX9_check (d2 + 1)) (hCl : CallsOK (ev_l X) G d2 cl ∧ hLm G lm ∧ 8 ≤ d2 ∧ LamsOK (ev_l X) G d2 cl) (S0 : HS0 X h0) (hret : (ev_h X).sig.returnType = (Option.some (Jvm.ClassFile.FieldType.object "GathersAllFaults$Look"))) (hXn : ev_n X = 10) (hini : (ev_s X).methodNamed? yX9_check = some (ev_m X)) (hTb : (ev_c X).exceptionTable.toList = []) : ∀ (x0 : Nat) (x1 : Option Nat) (x2 : Int32) (x3 : Int32) (x4 : Int32) (s0 : Nat) (s1 : Int32) (h : HS), wb_X9_check_109 cl lm Q E x0 x1 x2 x3 x4 s0 s1 h → GH X G h (hQ X G h0 Q E) 109 [(0, .ref x0), (1, va_rf x1), (2, .int x2), (3, .int x3), (4, .int x4)] [.int s1, .ref s0] := by
  have hlm := hCl.2.1
  have hd8 := hCl.2.2.1
  have hd2 : 1 ≤ d2 := Nat.le_trans (by decide) hd8
  have hLa := hCl.2.2.2
  have hd1 : 1 ≤ d2 + 1 := Nat.le_add_left _ _
  have hC9 := hCl
  replace hCl := hCl.1
  intro x0 x1 x2 x3 x4 s0 s1 h hw
  unfold wb_X9_check_109 at hw
  refine gc_X9_42 (pc := 109) (As := [.int s1]) (rest := []) C hCl (Nat.le_refl _) hw rfl rfl (Nat.le_of_ble_eq_true rfl) dX9_check_109 (fun v9 h_1 hp => ?_) (fun q_2 h_3 hw ht9 => ?_)
  rotate_left
  · exact gx_out C S0 (by rw [hTb]; decide) ht9 hw
  clear hw
  obtain ⟨rfl, hw⟩ := hp
  refine GK.at (p2 := 112) rfl ?_
  refine gk_aload_n (pc := 112) C.1 0 dX9_check_112 rfl rfl ?_
  refine gk_dup (pc := 113) C.1 dX9_check_113 rfl ?_
  obtain ⟨ht, hw⟩ := hw
  refine gf_X9_26 (pc := 114) C ht dX9_check_114 ?_
  refine gk_iconst (pc := 117) (v := 1) C.1 dX9_check_117 (by decide) ?_
  refine gk_iadd (pc := 118) C.1 dX9_check_118 ?_
  obtain ⟨ht, hw⟩ := hw
  refine gfp_X9_26 (pc := 119) C ht dX9_check_119 (fun h_4 eh_4 => ?_)
  replace hw := hw h_4 eh_4
  refine gk_iload (pc := 122) C.1 4 dX9_check_122 rfl ?_
  by_cases c_5 : x4 = 33
  · replace hw := hw.1 c_5
    refine gk_lookup (pc := 124) (off := 113) (tgt := 237) C.1 dX9_check_124 (by decide) (by rw [c_5]; decide) (by decide) ?_
    refine GK.sub (lv' := [(0, .ref x0), (1, va_rf x1), (2, .int x2), (4, .int x4)]) [0, 1, 2, 4] rfl ?_
    exact wk_X9_check_237 C hC9 S0 hret hXn hini hTb  _ _ _ _ _ hw
  · replace hw := hw.2 c_5
    by_cases c_6 : x4 = 35
    · replace hw := hw.1 c_6
      refine gk_lookup (pc := 124) (off := 76) (tgt := 200) C.1 dX9_check_124 (by decide) (by rw [c_6]; decide) (by decide) ?_
      refine gk_aload_n (pc := 200) C.1 0 dX9_check_200 rfl rfl ?_
      refine gc_X9_137 (pc := 201) (As := []) (rest := []) C hCl (Nat.le_refl _) hw rfl rfl (Nat.le_of_ble_eq_true rfl) dX9_check_201 (fun v9 h_7 hp => ?_) (fun q_9 h_10 hw ht9 => ?_)
      rotate_left
      · exact gx_out C S0 (by rw [hTb]; decide) ht9 hw
      clear hw
      obtain ⟨r_8, rfl, hw⟩ := hp
      refine GK.at (p2 := 204) rfl ?_
      refine gk_istore (pc := 204) (lv' := [(5, Value.int r_8), (0, Value.ref x0), (1, va_rf x1), (2, Value.int x2), (3, Value.int x3), (4, Value.int x4)]) C.1 dX9_check_204 (by rw [hXn]; decide) (by first | rfl | simp [va_rf_S, va_rf_cat, cat_i, cat_a, cat_l, cat_f, fin4_0, fin4_1, fin4_2, fin4_3]) ?_
      refine gk_aload_n (pc := 206) C.1 1 dX9_check_206 rfl rfl ?_
      refine gc_X9_137 (pc := 207) (As := []) (rest := []) C hCl (Nat.le_refl _) hw rfl rfl (Nat.le_of_ble_eq_true rfl) dX9_check_207 (fun v9 h_11 hp => ?_) (fun q_13 h_14 hw ht9 => ?_)
      rotate_left
      · exact gx_out C S0 (by rw [hTb]; decide) ht9 hw
      clear hw
      obtain ⟨r_12, rfl, hw⟩ := hp
      refine GK.at (p2 := 210) rfl ?_
      refine gk_istore (pc := 210) (lv' := [(6, Value.int r_12), (5, Value.int r_8), (0, Value.ref x0), (1, va_rf x1), (2, Value.int x2), (3, Value.int x3), (4, Value.int x4)]) C.1 dX9_check_210 (by rw [hXn]; decide) (by first | rfl | simp [va_rf_S, va_rf_cat, cat_i, cat_a, cat_l, cat_f, fin4_0, fin4_1, fin4_2, fin4_3]) ?_
      refine gk_aload_n (pc := 212) C.1 2 dX9_check_212 rfl rfl ?_
      refine gk_iload (pc := 213) C.1 1 dX9_check_213 rfl ?_
      refine gk_iload (pc := 215) C.1 0 dX9_check_215 rfl ?_
      refine gk_icmp_le (pc := 217) (tgt := 224) C.1 dX9_check_217 (by decide) (fun c_15 => ?_) (fun c_15 => ?_)
      · replace hw := hw.1 c_15
        refine gk_iconst (pc := 224) (v := 0) C.1 dX9_check_224 (by decide) ?_
        refine GK.sub (lv' := [(3, .int x3), (5, .int r_8), (6, .int r_12)]) [5, 1, 0] rfl ?_
        exact wk_X9_check_225 C hC9 S0 hret hXn hini hTb  _ _ _ _ _ _ hw
      · replace hw := hw.2 c_15
        refine gk_iconst (pc := 220) (v := 1) C.1 dX9_check_220 (by decide) ?_
        refine gk_goto (pc := 221) (tgt := 225) C.1 dX9_check_221 (by decide) ?_
        refine GK.sub (lv' := [(3, .int x3), (5, .int r_8), (6, .int r_12)]) [5, 1, 0] rfl ?_
        exact wk_X9_check_225 C hC9 S0 hret hXn hini hTb  _ _ _ _ _ _ hw
    · replace hw := hw.2 c_6
      by_cases c_16 : x4 = 38
      · replace hw := hw.1 c_16
        refine gk_lookup (pc := 124) (off := 184) (tgt := 308) C.1 dX9_check_124 (by decide) (by rw [c_16]; decide) (by decide) ?_
        refine gk_aload_n (pc := 308) C.1 0 dX9_check_308 rfl rfl ?_
        refine gk_qload_n (pc := 309) C.1 1 dX9_check_309 rfl rfl ?_
        refine gk_iload_n (pc := 310) C.1 2 dX9_check_310 rfl rfl ?_
        refine gc_X9_144 (pc := 311) (As := [va_rf x1, .int x2]) (rest := []) C hCl (Nat.le_refl _) hw rfl rfl (Nat.le_of_ble_eq_true rfl) dX9_check_311 (fun v9 h_17 hp => ?_) (fun q_19 h_20 hw ht9 => ?_)
        rotate_left
        · exact gx_out C S0 (by rw [hTb]; decide) ht9 hw
        clear hw
        obtain ⟨r_18, rfl, hw⟩ := hp
        refine GK.at (p2 := 314) rfl ?_
        refine gc_X9_160 (pc := 314) (As := [va_rf r_18]) (rest := []) C hCl (Nat.le_refl _) hw rfl rfl (Nat.le_of_ble_eq_true rfl) dX9_check_314 (fun v9 h_21 hp => ?_) (fun q_23 h_24 hw ht9 => ?_)
        rotate_left
        · exact gx_out C S0 (by rw [hTb]; decide) ht9 hw
        clear hw
        obtain ⟨r_22, rfl, hw⟩ := hp
        refine GK.at (p2 := 317) rfl ?_
        exact gh_aret (pc := 317) (r := r_22) C S0 hret (Or.inl ⟨_, rfl⟩) dX9_check_317 hw
      · replace hw := hw.2 c_16
        by_cases c_25 : x4 = 47
        · replace hw := hw.1 c_25
          refine gk_lookup (pc := 124) (off := 194) (tgt := 318) C.1 dX9_check_124 (by decide) (by rw [c_25]; decide) (by decide) ?_
          refine gk_aload_n (pc := 318) C.1 0 dX9_check_318 rfl rfl ?_
          refine gk_qload_n (pc := 319) C.1 1 dX9_check_319 rfl rfl ?_
          refine gk_iload_n (pc := 320) C.1 2 dX9_check_320 rfl rfl ?_
          refine gc_X9_144 (pc := 321) (As := [va_rf x1, .int x2]) (rest := []) C hCl (Nat.le_refl _) hw rfl rfl (Nat.le_of_ble_eq_true rfl) dX9_check_321 (fun v9 h_26 hp => ?_) (fun q_28 h_29 hw ht9 => ?_)
          rotate_left
          · exact gx_out C S0 (by rw [hTb]; decide) ht9 hw
          clear hw
          obtain ⟨r_27, rfl, hw⟩ := hp
          refine GK.at (p2 := 324) rfl ?_
          refine gk_qstore (pc := 324) (lv' := [(9, va_rf r_27), (0, Value.ref x0), (1, va_rf x1), (2, Value.int x2), (3, Value.int x3), (4, Value.int x4)]) C.1 dX9_check_324 (by rw [hXn]; decide) (by first | rfl | simp [va_rf_S, va_rf_cat, cat_i, cat_a, cat_l, cat_f, fin4_0, fin4_1, fin4_2, fin4_3]) ?_
          refine gk_qload (pc := 326) C.1 0 dX9_check_326 rfl ?_
          refine gk_aload_n (pc := 328) C.1 1 dX9_check_328 rfl rfl ?_
          refine gk_qload_n (pc := 329) C.1 2 dX9_check_329 rfl rfl ?_
          refine gk_iload_n (pc := 330) C.1 3 dX9_check_330 rfl rfl ?_
          refine gc_X9_144 (pc := 331) (As := [va_rf x1, .int x2]) (rest := [va_rf r_27]) C hCl (Nat.le_refl _) hw rfl rfl (by simp [va_rf_S, va_rf_cat, cat_i, cat_a, cat_l, cat_f, fin4_0, fin4_1, fin4_2, fin4_3]) dX9_check_331 (fun v9 h_30 hp => ?_) (fun q_32 h_33 hw ht9 => ?_)
          rotate_left
          · exact gx_out C S0 (by rw [hTb]; decide) ht9 hw
          clear hw
          obtain ⟨r_31, rfl, hw⟩ := hp
          refine GK.at (p2 := 334) rfl ?_
          refine gc_X9_164 (pc := 334) (As := [va_rf r_27, va_rf r_31]) (rest := []) C hCl (Nat.le_refl _) hw rfl rfl (Nat.le_of_ble_eq_true rfl) dX9_check_334 (fun v9 h_34 hp => ?_) (fun q_36 h_37 hw ht9 => ?_)
          rotate_left
          · exact gx_out C S0 (by rw [hTb]; decide) ht9 hw
          clear hw
          obtain ⟨r_35, rfl, hw⟩ := hp
          refine GK.at (p2 := 337) rfl ?_
          exact gh_aret (pc := 337) (r := r_35) C S0 hret (Or.inl ⟨_, rfl⟩) dX9_check_337 hw
        · replace hw := hw.2 c_25
          by_cases c_38 : x4 = 64
          · replace hw := hw.1 c_38
            refine gk_lookup (pc := 124) (off := 141) (tgt := 265) C.1 dX9_check_124 (by decide) (by rw [c_38]; decide) (by decide) ?_
            refine gk_aload_n (pc := 265) C.1 0 dX9_check_265 rfl rfl ?_
            refine gc_X9_67 (pc := 266) (As := []) (rest := []) C hCl (Nat.le_refl _) hw rfl rfl (Nat.le_of_ble_eq_true rfl) dX9_check_266 (fun v9 h_39 hp => ?_) (fun q_41 h_42 hw ht9 => ?_)
            rotate_left
            · exact gx_out C S0 (by rw [hTb]; decide) ht9 hw
            clear hw
            obtain ⟨r_40, rfl, hw⟩ := hp
            refine GK.at (p2 := 269) rfl ?_
            refine gk_istore (pc := 269) (lv' := [(7, Value.int r_40), (0, Value.ref x0), (1, va_rf x1), (2, Value.int x2), (3, Value.int x3), (4, Value.int x4)]) C.1 dX9_check_269 (by rw [hXn]; decide) (by first | rfl | simp [va_rf_S, va_rf_cat, cat_i, cat_a, cat_l, cat_f, fin4_0, fin4_1, fin4_2, fin4_3]) ?_
            refine gk_aload_n (pc := 271) C.1 1 dX9_check_271 rfl rfl ?_
            refine gc_X9_67 (pc := 272) (As := []) (rest := []) C hCl (Nat.le_refl _) hw rfl rfl (Nat.le_of_ble_eq_true rfl) dX9_check_272 (fun v9 h_43 hp => ?_) (fun q_45 h_46 hw ht9 => ?_)
            rotate_left
            · exact gx_out C S0 (by rw [hTb]; decide) ht9 hw
            clear hw
            obtain ⟨r_44, rfl, hw⟩ := hp
            refine GK.at (p2 := 275) rfl ?_
            refine gk_istore (pc := 275) (lv' := [(8, Value.int r_44), (7, Value.int r_40), (0, Value.ref x0), (1, va_rf x1), (2, Value.int x2), (3, Value.int x3), (4, Value.int x4)]) C.1 dX9_check_275 (by rw [hXn]; decide) (by first | rfl | simp [va_rf_S, va_rf_cat, cat_i, cat_a, cat_l, cat_f, fin4_0, fin4_1, fin4_2, fin4_3]) ?_
            refine gk_aload_n (pc := 277) C.1 2 dX9_check_277 rfl rfl ?_
            refine gk_iload (pc := 278) C.1 1 dX9_check_278 rfl ?_
            refine gk_iload (pc := 280) C.1 0 dX9_check_280 rfl ?_
            refine gk_icmp_le (pc := 282) (tgt := 289) C.1 dX9_check_282 (by decide) (fun c_47 => ?_) (fun c_47 => ?_)
            · replace hw := hw.1 c_47
              refine gk_iconst (pc := 289) (v := 0) C.1 dX9_check_289 (by decide) ?_
              refine GK.sub (lv' := [(0, .ref x0), (1, va_rf x1), (3, .int x3), (7, .int r_40), (8, .int r_44)]) [2, 3, 5, 1, 0] rfl ?_
              exact wk_X9_check_290 C hC9 S0 hret hXn hini hTb  _ _ _ _ _ _ _ _ hw
            · replace hw := hw.2 c_47
              refine gk_iconst (pc := 285) (v := 1) C.1 dX9_check_285 (by decide) ?_
              refine gk_goto (pc := 286) (tgt := 290) C.1 dX9_check_286 (by decide) ?_
              refine GK.sub (lv' := [(0, .ref x0), (1, va_rf x1), (3, .int x3), (7, .int r_40), (8, .int r_44)]) [2, 3, 5, 1, 0] rfl ?_
              exact wk_X9_check_290 C hC9 S0 hret hXn hini hTb  _ _ _ _ _ _ _ _ hw
          · replace hw := hw.2 c_38
            by_cases c_48 : x4 = 94
            · replace hw := hw.1 c_48
              refine gk_lookup (pc := 124) (off := 214) (tgt := 338) C.1 dX9_check_124 (by decide) (by rw [c_48]; decide) (by decide) ?_
              refine gk_aload_n (pc := 338) C.1 0 dX9_check_338 rfl rfl ?_
              refine gk_dup (pc := 339) C.1 dX9_check_339 rfl ?_
              obtain ⟨ht, hw⟩ := hw
              refine gf_X9_168 (pc := 340) C ht dX9_check_340 ?_
              refine gk_iconst (pc := 343) (v := 1) C.1 dX9_check_343 (by decide) ?_
              refine gk_iadd (pc := 344) C.1 dX9_check_344 ?_
              obtain ⟨ht, hw⟩ := hw
              refine gfp_X9_168 (pc := 345) C ht dX9_check_345 (fun h_49 eh_49 => ?_)
              replace hw := hw h_49 eh_49
              refine gk_aload_n (pc := 348) C.1 0 dX9_check_348 rfl rfl ?_
              refine gk_iload_n (pc := 349) C.1 2 dX9_check_349 rfl rfl ?_
              refine gk_if_eq (pc := 350) (tgt := 361) C.1 dX9_check_350 (by decide) (fun c_50 => ?_) (fun c_50 => ?_)
              · replace hw := hw.1 c_50
                refine GK.sub (lv' := [(1, va_rf x1), (3, .int x3)]) [1, 3] rfl ?_
                exact wk_X9_check_361 C hC9 S0 hret hXn hini hTb  _ _ _ _ hw
              · replace hw := hw.2 c_50
                refine gk_aload_n (pc := 353) C.1 0 dX9_check_353 rfl rfl ?_
                obtain ⟨ht, hw⟩ := hw
                refine gf_X9_168 (pc := 354) C ht dX9_check_354 ?_
                refine gk_iconst (pc := 357) (v := 3) C.1 dX9_check_357 (by decide) ?_
                refine gk_icmp_le (pc := 358) (tgt := 365) C.1 dX9_check_358 (by decide) (fun c_51 => ?_) (fun c_51 => ?_)
                · replace hw := hw.1 c_51
                  refine gk_iconst (pc := 365) (v := 0) C.1 dX9_check_365 (by decide) ?_
                  refine GK.sub (lv' := [(1, va_rf x1), (3, .int x3)]) [1, 3] rfl ?_
                  exact wk_X9_check_366 C hC9 S0 hret hXn hini hTb  _ _ _ _ _ hw
                · replace hw := hw.2 c_51
                  refine GK.sub (lv' := [(1, va_rf x1), (3, .int x3)]) [1, 3] rfl ?_
                  exact wk_X9_check_361 C hC9 S0 hret hXn hini hTb  _ _ _ _ hw
            · replace hw := hw.2 c_48
              by_cases c_52 : x4 = 123
              · replace hw := hw.1 c_52
                refine gk_lookup (pc := 124) (off := 135) (tgt := 259) C.1 dX9_check_124 (by decide) (by rw [c_52]; decide) (by decide) ?_
                refine gk_aload_n (pc := 259) C.1 0 dX9_check_259 rfl rfl ?_
                refine gk_qload_n (pc := 260) C.1 1 dX9_check_260 rfl rfl ?_
                refine gc_X9_152 (pc := 261) (As := [va_rf x1]) (rest := []) C hCl (Nat.le_refl _) hw rfl rfl (Nat.le_of_ble_eq_true rfl) dX9_check_261 (fun v9 h_53 hp => ?_) (fun q_55 h_56 hw ht9 => ?_)
                rotate_left
                · exact gx_out C S0 (by rw [hTb]; decide) ht9 hw
                clear hw
                obtain ⟨r_54, rfl, hw⟩ := hp
                refine GK.at (p2 := 264) rfl ?_
                exact gh_aret (pc := 264) (r := r_54) C S0 hret (Or.inl ⟨_, rfl⟩) dX9_check_264 hw
              · replace hw := hw.2 c_52
                by_cases c_57 : x4 = 126
                · replace hw := hw.1 c_57
                  refine gk_lookup (pc := 124) (off := 113) (tgt := 237) C.1 dX9_check_124 (by decide) (by rw [c_57]; decide) (by decide) ?_
                  refine GK.sub (lv' := [(0, .ref x0), (1, va_rf x1), (2, .int x2), (4, .int x4)]) [0, 1, 2, 4] rfl ?_
                  exact wk_X9_check_237 C hC9 S0 hret hXn hini hTb  _ _ _ _ _ hw
                · replace hw := hw.2 c_57
                  refine gk_lookup (pc := 124) (off := 251) (tgt := 375) C.1 dX9_check_124 (by decide) ((lv_osw c_5 (k := 33) (by decide)).trans ((lv_osw c_6 (k := 35) (by decide)).trans ((lv_osw c_16 (k := 38) (by decide)).trans ((lv_osw c_25 (k := 47) (by decide)).trans ((lv_osw c_38 (k := 64) (by decide)).trans ((lv_osw c_48 (k := 94) (by decide)).trans ((lv_osw c_52 (k := 123) (by decide)).trans ((lv_osw c_57 (k := 126) (by decide)).trans (rfl))))))))) (by decide) ?_
                  refine gd_11 C hini (Nat.le_of_ble_eq_true rfl) dX9_check_375 (fun a_58 z3 => ?_)
                  replace hw := hw a_58 z3
                  exact gh_aret (pc := 380) (r := (some a_58)) C S0 hret (Or.inl ⟨_, rfl⟩) dX9_check_380 hw
def wb_X9_check_104 (cl : CT) (lm : Nat × Nat) (Q : QT) (E : ET) (x0 : Nat) (x1 : Option Nat) (x2 : Int32) (x3 : Int32) (x4 : Int32) (s0 : Nat) (h : HS) : Prop := wb_X9_check_109 cl lm Q E x0 x1 x2 x3 x4 s0 1 h
theorem wk_X9_check_104 {X : Ev} {G : GG} {cl : CT} {lm : Nat × Nat} {Q : QT} {E : ET} {h0 : HS} {d2 : Nat} (C : HC X G RX9 cX9_check (d2 + 1)) (hCl : CallsOK (ev_l X) G d2 cl ∧ hLm G lm ∧ 8 ≤ d2 ∧ LamsOK (ev_l X) G d2 cl) (S0 : HS0 X h0) (hret : (ev_h X).sig.returnType = (Option.some (Jvm.ClassFile.FieldType.object "GathersAllFaults$Look"))) (hXn : ev_n X = 10) (hini : (ev_s X).methodNamed? yX9_check = some (ev_m X)) (hTb : (ev_c X).exceptionTable.toList = []) : ∀ (x0 : Nat) (x1 : Option Nat) (x2 : Int32) (x3 : Int32) (x4 : Int32) (s0 : Nat) (h : HS), wb_X9_check_104 cl lm Q E x0 x1 x2 x3 x4 s0 h → GH X G h (hQ X G h0 Q E) 104 [(0, .ref x0), (1, va_rf x1), (2, .int x2), (3, .int x3), (4, .int x4)] [.ref s0] := by
  have hlm := hCl.2.1
  have hd8 := hCl.2.2.1
  have hd2 : 1 ≤ d2 := Nat.le_trans (by decide) hd8
  have hLa := hCl.2.2.2
  have hd1 : 1 ≤ d2 + 1 := Nat.le_add_left _ _
  have hC9 := hCl
  replace hCl := hCl.1
  intro x0 x1 x2 x3 x4 s0 h hw
  unfold wb_X9_check_104 at hw
  refine gk_iconst (pc := 104) (v := 1) C.1 dX9_check_104 (by decide) ?_
  refine gk_goto (pc := 105) (tgt := 109) C.1 dX9_check_105 (by decide) ?_
  refine GK.sub (lv' := [(0, .ref x0), (1, va_rf x1), (2, .int x2), (3, .int x3), (4, .int x4)]) [0, 1, 2, 3, 4] rfl ?_
  exact wk_X9_check_109 C hC9 S0 hret hXn hini hTb  _ _ _ _ _ _ _ _ hw
def wb_X9_check_30 (cl : CT) (lm : Nat × Nat) (Q : QT) (E : ET) (x0 : Nat) (x1 : Option Nat) (x2 : Int32) (x3 : Int32) (s0 : Nat) (s1 : Int32) (h : HS) : Prop := dp_Reader_wrong cl s0 [.int s1, .int x3] h (gV (fun h_1 => dp_Reader_here cl x0 [] h_1 (gI (fun r_5 h_4 => ((r_5 = 42 → (wb_X9_check_104 cl lm Q E x0 x1 x2 x3 r_5 x0 h_4)) ∧ (¬ r_5 = 42 → (((r_5 = 35 → (wb_X9_check_104 cl lm Q E x0 x1 x2 x3 r_5 x0 h_4)) ∧ (¬ r_5 = 35 → (((r_5 = 33 → (wb_X9_check_104 cl lm Q E x0 x1 x2 x3 r_5 x0 h_4)) ∧ (¬ r_5 = 33 → (((r_5 = 126 → (wb_X9_check_104 cl lm Q E x0 x1 x2 x3 r_5 x0 h_4)) ∧ (¬ r_5 = 126 → (((r_5 = 123 → (wb_X9_check_104 cl lm Q E x0 x1 x2 x3 r_5 x0 h_4)) ∧ (¬ r_5 = 123 → (((r_5 = 64 → (wb_X9_check_104 cl lm Q E x0 x1 x2 x3 r_5 x0 h_4)) ∧ (¬ r_5 = 64 → (((r_5 = 38 → (wb_X9_check_104 cl lm Q E x0 x1 x2 x3 r_5 x0 h_4)) ∧ (¬ r_5 = 38 → (((r_5 = 47 → (wb_X9_check_104 cl lm Q E x0 x1 x2 x3 r_5 x0 h_4)) ∧ (¬ r_5 = 47 → (((¬ r_5 = 94 → (wb_X9_check_109 cl lm Q E x0 x1 x2 x3 r_5 x0 0 h_4)) ∧ (r_5 = 94 → (wb_X9_check_104 cl lm Q E x0 x1 x2 x3 r_5 x0 h_4))))))))))))))))))))))))))))) E)) E
theorem wk_X9_check_30 {X : Ev} {G : GG} {cl : CT} {lm : Nat × Nat} {Q : QT} {E : ET} {h0 : HS} {d2 : Nat} (C : HC X G RX9 cX9_check (d2 + 1)) (hCl : CallsOK (ev_l X) G d2 cl ∧ hLm G lm ∧ 8 ≤ d2 ∧ LamsOK (ev_l X) G d2 cl) (S0 : HS0 X h0) (hret : (ev_h X).sig.returnType = (Option.some (Jvm.ClassFile.FieldType.object "GathersAllFaults$Look"))) (hXn : ev_n X = 10) (hini : (ev_s X).methodNamed? yX9_check = some (ev_m X)) (hTb : (ev_c X).exceptionTable.toList = []) : ∀ (x0 : Nat) (x1 : Option Nat) (x2 : Int32) (x3 : Int32) (s0 : Nat) (s1 : Int32) (h : HS), wb_X9_check_30 cl lm Q E x0 x1 x2 x3 s0 s1 h → GH X G h (hQ X G h0 Q E) 30 [(0, .ref x0), (1, va_rf x1), (2, .int x2), (3, .int x3)] [.int s1, .ref s0] := by
  have hlm := hCl.2.1
  have hd8 := hCl.2.2.1
  have hd2 : 1 ≤ d2 := Nat.le_trans (by decide) hd8
  have hLa := hCl.2.2.2
  have hd1 : 1 ≤ d2 + 1 := Nat.le_add_left _ _
  have hC9 := hCl
  replace hCl := hCl.1
  intro x0 x1 x2 x3 s0 s1 h hw
  unfold wb_X9_check_30 at hw
  refine gk_iload_n (pc := 30) C.1 3 dX9_check_30 rfl rfl ?_
  refine gc_X9_63 (pc := 31) (As := [.int s1, .int x3]) (rest := []) C hCl (Nat.le_refl _) hw rfl rfl (Nat.le_of_ble_eq_true rfl) dX9_check_31 (fun v9 h_1 hp => ?_) (fun q_2 h_3 hw ht9 => ?_)
  rotate_left
  · exact gx_out C S0 (by rw [hTb]; decide) ht9 hw
  clear hw
  obtain ⟨rfl, hw⟩ := hp
  refine GK.at (p2 := 34) rfl ?_
  refine gk_aload_n (pc := 34) C.1 0 dX9_check_34 rfl rfl ?_
  refine gc_X9_38 (pc := 35) (As := []) (rest := []) C hCl (Nat.le_refl _) hw rfl rfl (Nat.le_of_ble_eq_true rfl) dX9_check_35 (fun v9 h_4 hp => ?_) (fun q_6 h_7 hw ht9 => ?_)
  rotate_left
  · exact gx_out C S0 (by rw [hTb]; decide) ht9 hw
  clear hw
  obtain ⟨r_5, rfl, hw⟩ := hp
  refine GK.at (p2 := 38) rfl ?_
  refine gk_istore (pc := 38) (lv' := [(4, Value.int r_5), (0, Value.ref x0), (1, va_rf x1), (2, Value.int x2), (3, Value.int x3)]) C.1 dX9_check_38 (by rw [hXn]; decide) (by first | rfl | simp [va_rf_S, va_rf_cat, cat_i, cat_a, cat_l, cat_f, fin4_0, fin4_1, fin4_2, fin4_3]) ?_
  refine gk_aload_n (pc := 40) C.1 1 dX9_check_40 rfl rfl ?_
  refine gk_iload (pc := 41) C.1 0 dX9_check_41 rfl ?_
  refine gk_bipush (pc := 43) (v := 42) C.1 dX9_check_43 (by decide) ?_
  refine gk_icmp_eq (pc := 45) (tgt := 104) C.1 dX9_check_45 (by decide) (fun c_8 => ?_) (fun c_8 => ?_)
  · replace hw := hw.1 c_8
    refine GK.sub (lv' := [(0, .ref x0), (1, va_rf x1), (2, .int x2), (3, .int x3), (4, .int r_5)]) [1, 2, 3, 4, 0] rfl ?_
    exact wk_X9_check_104 C hC9 S0 hret hXn hini hTb  _ _ _ _ _ _ _ hw
  · replace hw := hw.2 c_8
    refine gk_iload (pc := 48) C.1 0 dX9_check_48 rfl ?_
    refine gk_bipush (pc := 50) (v := 35) C.1 dX9_check_50 (by decide) ?_
    refine gk_icmp_eq (pc := 52) (tgt := 104) C.1 dX9_check_52 (by decide) (fun c_9 => ?_) (fun c_9 => ?_)
    · replace hw := hw.1 c_9
      refine GK.sub (lv' := [(0, .ref x0), (1, va_rf x1), (2, .int x2), (3, .int x3), (4, .int r_5)]) [1, 2, 3, 4, 0] rfl ?_
      exact wk_X9_check_104 C hC9 S0 hret hXn hini hTb  _ _ _ _ _ _ _ hw
    · replace hw := hw.2 c_9
      refine gk_iload (pc := 55) C.1 0 dX9_check_55 rfl ?_
      refine gk_bipush (pc := 57) (v := 33) C.1 dX9_check_57 (by decide) ?_
      refine gk_icmp_eq (pc := 59) (tgt := 104) C.1 dX9_check_59 (by decide) (fun c_10 => ?_) (fun c_10 => ?_)
      · replace hw := hw.1 c_10
        refine GK.sub (lv' := [(0, .ref x0), (1, va_rf x1), (2, .int x2), (3, .int x3), (4, .int r_5)]) [1, 2, 3, 4, 0] rfl ?_
        exact wk_X9_check_104 C hC9 S0 hret hXn hini hTb  _ _ _ _ _ _ _ hw
      · replace hw := hw.2 c_10
        refine gk_iload (pc := 62) C.1 0 dX9_check_62 rfl ?_
        refine gk_bipush (pc := 64) (v := 126) C.1 dX9_check_64 (by decide) ?_
        refine gk_icmp_eq (pc := 66) (tgt := 104) C.1 dX9_check_66 (by decide) (fun c_11 => ?_) (fun c_11 => ?_)
        · replace hw := hw.1 c_11
          refine GK.sub (lv' := [(0, .ref x0), (1, va_rf x1), (2, .int x2), (3, .int x3), (4, .int r_5)]) [1, 2, 3, 4, 0] rfl ?_
          exact wk_X9_check_104 C hC9 S0 hret hXn hini hTb  _ _ _ _ _ _ _ hw
        · replace hw := hw.2 c_11
          refine gk_iload (pc := 69) C.1 0 dX9_check_69 rfl ?_
          refine gk_bipush (pc := 71) (v := 123) C.1 dX9_check_71 (by decide) ?_
          refine gk_icmp_eq (pc := 73) (tgt := 104) C.1 dX9_check_73 (by decide) (fun c_12 => ?_) (fun c_12 => ?_)
          · replace hw := hw.1 c_12
            refine GK.sub (lv' := [(0, .ref x0), (1, va_rf x1), (2, .int x2), (3, .int x3), (4, .int r_5)]) [1, 2, 3, 4, 0] rfl ?_
            exact wk_X9_check_104 C hC9 S0 hret hXn hini hTb  _ _ _ _ _ _ _ hw
          · replace hw := hw.2 c_12
            refine gk_iload (pc := 76) C.1 0 dX9_check_76 rfl ?_
            refine gk_bipush (pc := 78) (v := 64) C.1 dX9_check_78 (by decide) ?_
            refine gk_icmp_eq (pc := 80) (tgt := 104) C.1 dX9_check_80 (by decide) (fun c_13 => ?_) (fun c_13 => ?_)
            · replace hw := hw.1 c_13
              refine GK.sub (lv' := [(0, .ref x0), (1, va_rf x1), (2, .int x2), (3, .int x3), (4, .int r_5)]) [1, 2, 3, 4, 0] rfl ?_
              exact wk_X9_check_104 C hC9 S0 hret hXn hini hTb  _ _ _ _ _ _ _ hw
            · replace hw := hw.2 c_13
              refine gk_iload (pc := 83) C.1 0 dX9_check_83 rfl ?_
              refine gk_bipush (pc := 85) (v := 38) C.1 dX9_check_85 (by decide) ?_
              refine gk_icmp_eq (pc := 87) (tgt := 104) C.1 dX9_check_87 (by decide) (fun c_14 => ?_) (fun c_14 => ?_)
              · replace hw := hw.1 c_14
                refine GK.sub (lv' := [(0, .ref x0), (1, va_rf x1), (2, .int x2), (3, .int x3), (4, .int r_5)]) [1, 2, 3, 4, 0] rfl ?_
                exact wk_X9_check_104 C hC9 S0 hret hXn hini hTb  _ _ _ _ _ _ _ hw
              · replace hw := hw.2 c_14
                refine gk_iload (pc := 90) C.1 0 dX9_check_90 rfl ?_
                refine gk_bipush (pc := 92) (v := 47) C.1 dX9_check_92 (by decide) ?_
                refine gk_icmp_eq (pc := 94) (tgt := 104) C.1 dX9_check_94 (by decide) (fun c_15 => ?_) (fun c_15 => ?_)
                · replace hw := hw.1 c_15
                  refine GK.sub (lv' := [(0, .ref x0), (1, va_rf x1), (2, .int x2), (3, .int x3), (4, .int r_5)]) [1, 2, 3, 4, 0] rfl ?_
                  exact wk_X9_check_104 C hC9 S0 hret hXn hini hTb  _ _ _ _ _ _ _ hw
                · replace hw := hw.2 c_15
                  refine gk_iload (pc := 97) C.1 0 dX9_check_97 rfl ?_
                  refine gk_bipush (pc := 99) (v := 94) C.1 dX9_check_99 (by decide) ?_
                  refine gk_icmp_ne (pc := 101) (tgt := 108) C.1 dX9_check_101 (by decide) (fun c_16 => ?_) (fun c_16 => ?_)
                  · replace hw := hw.1 c_16
                    refine gk_iconst (pc := 108) (v := 0) C.1 dX9_check_108 (by decide) ?_
                    refine GK.sub (lv' := [(0, .ref x0), (1, va_rf x1), (2, .int x2), (3, .int x3), (4, .int r_5)]) [1, 2, 3, 4, 0] rfl ?_
                    exact wk_X9_check_109 C hC9 S0 hret hXn hini hTb  _ _ _ _ _ _ _ _ hw
                  · replace hw := hw.2 c_16
                    refine GK.sub (lv' := [(0, .ref x0), (1, va_rf x1), (2, .int x2), (3, .int x3), (4, .int r_5)]) [1, 2, 3, 4, 0] rfl ?_
                    exact wk_X9_check_104 C hC9 S0 hret hXn hini hTb  _ _ _ _ _ _ _ hw
def wb_X9_check (cl : CT) (lm : Nat × Nat) (Q : QT) (E : ET) (x0 : Nat) (x1 : Option Nat) (x2 : Int32) (h : HS) : Prop := (hT h x0 = 15) ∧ (∀ x_1 : Int32, x_1 = hI h 49 x0 → ((hT h x0 = 15) ∧ ((hT h x0 = 15) ∧ (∀ h_2 : HS, h_2 = sI h 51 x0 ((hI h 51 x0) + 1) → ((hT h_2 x0 = 15) ∧ ((((hI h_2 51 x0) ≤ 24 → (wb_X9_check_30 cl lm Q E x0 x1 x2 x_1 x0 0 h_2)) ∧ (¬ (hI h_2 51 x0) ≤ 24 → (wb_X9_check_30 cl lm Q E x0 x1 x2 x_1 x0 1 h_2)))))))))
theorem wx_X9_check {l : Launch} (hst : l.stackTraces = false) {G : GG} {cl : CT} {lm : Nat × Nat} {Q : QT} {E : ET} {d2 : Nat} (hCl : CallsOK l G d2 cl ∧ hLm G lm ∧ 8 ≤ d2 ∧ LamsOK l G d2 cl) {x0 : Nat} {x1 : Option Nat} {x2 : Int32} {h : HS} (hw : wb_X9_check cl lm Q E x0 x1 x2 h) : HMet l G yX9_check (ws_ yX9_check cX9_check 10 ((Option.some (Jvm.ClassFile.FieldType.object "GathersAllFaults$Look")))) (d2 + 1) [.ref x0, va_rf x1, .int x2] h Q E := by
  refine gh_met (own := RX9) rfl (by decide +kernel) hst (by simp only [lg_sl_i, lg_sl_r, lg_sl_a, lg_sl_2, lg_sl_f, lg_sl_0]; decide) (fun X hXl hXn hret hnm hTb h0 eh C S0 => ?_)
  subst hXl
  have hlm := hCl.2.1
  have hd8 := hCl.2.2.1
  have hd2 : 1 ≤ d2 := Nat.le_trans (by decide) hd8
  have hLa := hCl.2.2.2
  have hd1 : 1 ≤ d2 + 1 := Nat.le_add_left _ _
  have hC9 := hCl
  replace hCl := hCl.1
  have hini : (ev_s X).methodNamed? yX9_check = some (ev_m X) := hnm.2
  unfold wb_X9_check at hw
  refine GK.sub (lv' := [(0, .ref x0), (1, va_rf x1), (2, .int x2)]) [0, 1, 2] (by simp only [lv_args_i, lv_args_r, lv_args_a, lv_args_l, lv_args_f, lv_args_0]; rfl) ?_
  refine gk_aload_n (pc := 0) C.1 0 dX9_check_0 rfl rfl ?_
  obtain ⟨ht, hw⟩ := hw
  refine gf_X9_26 (pc := 1) C ht dX9_check_1 ?_
  obtain ⟨x_1, ex_1⟩ : ∃ z : Int32, z = hI h 49 x0 := ⟨_, rfl⟩
  rw [← ex_1]
  replace hw := hw x_1 ex_1
  refine gk_istore_n (pc := 4) (lv' := [(3, Value.int x_1), (0, Value.ref x0), (1, va_rf x1), (2, Value.int x2)]) C.1 dX9_check_4 rfl (by rw [hXn]; decide) (by first | rfl | simp [va_rf_S, va_rf_cat, cat_i, cat_a, cat_l, cat_f, fin4_0, fin4_1, fin4_2, fin4_3]) ?_
  refine gk_aload_n (pc := 5) C.1 1 dX9_check_5 rfl rfl ?_
  refine gk_dup (pc := 6) C.1 dX9_check_6 rfl ?_
  obtain ⟨ht, hw⟩ := hw
  refine gf_X9_134 (pc := 7) C ht dX9_check_7 ?_
  refine gk_iconst (pc := 10) (v := 1) C.1 dX9_check_10 (by decide) ?_
  refine gk_iadd (pc := 11) C.1 dX9_check_11 ?_
  obtain ⟨ht, hw⟩ := hw
  refine gfp_X9_134 (pc := 12) C ht dX9_check_12 (fun h_2 eh_2 => ?_)
  replace hw := hw h_2 eh_2
  refine gk_aload_n (pc := 15) C.1 1 dX9_check_15 rfl rfl ?_
  refine gk_aload_n (pc := 16) C.1 1 dX9_check_16 rfl rfl ?_
  obtain ⟨ht, hw⟩ := hw
  refine gf_X9_134 (pc := 17) C ht dX9_check_17 ?_
  refine gk_bipush (pc := 20) (v := 24) C.1 dX9_check_20 (by decide) ?_
  refine gk_icmp_le (pc := 22) (tgt := 29) C.1 dX9_check_22 (by decide) (fun c_3 => ?_) (fun c_3 => ?_)
  · replace hw := hw.1 c_3
    refine gk_iconst (pc := 29) (v := 0) C.1 dX9_check_29 (by decide) ?_
    refine GK.sub (lv' := [(0, .ref x0), (1, va_rf x1), (2, .int x2), (3, .int x_1)]) [1, 2, 3, 0] rfl ?_
    exact wk_X9_check_30 C hC9 S0 hret hXn hini hTb  _ _ _ _ _ _ _ hw
  · replace hw := hw.2 c_3
    refine gk_iconst (pc := 25) (v := 1) C.1 dX9_check_25 (by decide) ?_
    refine gk_goto (pc := 26) (tgt := 30) C.1 dX9_check_26 (by decide) ?_
    refine GK.sub (lv' := [(0, .ref x0), (1, va_rf x1), (2, .int x2), (3, .int x_1)]) [1, 2, 3, 0] rfl ?_
    exact wk_X9_check_30 C hC9 S0 hret hXn hini hTb  _ _ _ _ _ _ _ hw
/-! 182: GathersAllFaults$Reader.digit()I -/
def wb_X9_digit (cl : CT) (lm : Nat × Nat) (Q : QT) (E : ET) (x0 : Nat) (h : HS) : Prop := dp_Reader_here cl x0 [] h (gI (fun r_2 h_1 => cl 78 [.long ((r_2 : Int32).toInt64), .long 48, .long 57] h_1 (gI (fun r_6 h_5 => dp_Reader_mustStand cl x0 [.int r_6] h_5 (gV (fun h_9 => (hT h_9 x0 = 15) ∧ ((hT h_9 x0 = 15) ∧ (∀ h_12 : HS, h_12 = sI h_9 49 x0 ((hI h_9 49 x0) + 1) → ((hT h_12 x0 = 15) ∧ (∀ r_13 : Option Nat, r_13 = hR h_12 54 x0 → (∃ a_14 : Nat, r_13 = some a_14 ∧ ((hT h_12 a_14 = 1) ∧ (∀ r_15 : Option Nat, r_15 = hR h_12 7 a_14 → ((hT h_12 x0 = 15) ∧ (∃ a_16 : Nat, r_15 = some a_16 ∧ (hT h_12 a_16 = 103 ∧ (vp_in ((hI h_12 49 x0) - 1) (hN h_12 a_16) ∧ (Q (some (.int ((hA h_12 a_16 ((hI h_12 49 x0) - 1).toNatClampNeg) - 48))) h_12)))))))))))))) E)) E)) E
theorem wx_X9_digit {l : Launch} (hst : l.stackTraces = false) {G : GG} {cl : CT} {lm : Nat × Nat} {Q : QT} {E : ET} {d2 : Nat} (hCl : CallsOK l G d2 cl ∧ hLm G lm ∧ 8 ≤ d2 ∧ LamsOK l G d2 cl) {x0 : Nat} {h : HS} (hw : wb_X9_digit cl lm Q E x0 h) : HMet l G yX9_digit (ws_ yX9_digit cX9_digit 1 ((Option.some Jvm.ClassFile.FieldType.int))) (d2 + 1) [.ref x0] h Q E := by
  refine gh_met (own := RX9) rfl (by decide +kernel) hst (by simp only [lg_sl_i, lg_sl_r, lg_sl_a, lg_sl_2, lg_sl_f, lg_sl_0]; decide) (fun X hXl hXn hret hnm hTb h0 eh C S0 => ?_)
  subst hXl
  have hlm := hCl.2.1
  have hd8 := hCl.2.2.1
  have hd2 : 1 ≤ d2 := Nat.le_trans (by decide) hd8
  have hLa := hCl.2.2.2
  have hd1 : 1 ≤ d2 + 1 := Nat.le_add_left _ _
  have hC9 := hCl
  replace hCl := hCl.1
  have hini : True := trivial
  unfold wb_X9_digit at hw
  refine GK.sub (lv' := [(0, .ref x0)]) [0] (by simp only [lv_args_i, lv_args_r, lv_args_a, lv_args_l, lv_args_f, lv_args_0]; rfl) ?_
  refine gk_aload_n (pc := 0) C.1 0 dX9_digit_0 rfl rfl ?_
  refine gk_aload_n (pc := 1) C.1 0 dX9_digit_1 rfl rfl ?_
  refine gc_X9_38 (pc := 2) (As := []) (rest := [.ref x0]) C hCl (Nat.le_refl _) hw rfl rfl (Nat.le_of_ble_eq_true rfl) dX9_digit_2 (fun v9 h_1 hp => ?_) (fun q_3 h_4 hw ht9 => ?_)
  rotate_left
  · exact gx_out C S0 (by rw [hTb]; decide) ht9 hw
  clear hw
  obtain ⟨r_2, rfl, hw⟩ := hp
  refine GK.at (p2 := 5) rfl ?_
  refine gk_i2l (pc := 5) C.1 dX9_digit_5 ?_
  refine gk_ldc2 (pc := 6) (v := 48) C.1 q463 dX9_digit_6 ?_
  refine gk_ldc2 (pc := 9) (v := 57) C.1 q464 dX9_digit_9 ?_
  refine gc_X9_50 (pc := 12) (As := [.long ((r_2 : Int32).toInt64), .long 48, .long 57]) (rest := [.ref x0]) C hCl (Nat.le_refl _) hw rfl rfl (Nat.le_of_ble_eq_true rfl) dX9_digit_12 (fun v9 h_5 hp => ?_) (fun q_7 h_8 hw ht9 => ?_)
  rotate_left
  · exact gx_out C S0 (by rw [hTb]; decide) ht9 hw
  clear hw
  obtain ⟨r_6, rfl, hw⟩ := hp
  refine GK.at (p2 := 15) rfl ?_
  refine gc_X9_42 (pc := 15) (As := [.int r_6]) (rest := []) C hCl (Nat.le_refl _) hw rfl rfl (Nat.le_of_ble_eq_true rfl) dX9_digit_15 (fun v9 h_9 hp => ?_) (fun q_10 h_11 hw ht9 => ?_)
  rotate_left
  · exact gx_out C S0 (by rw [hTb]; decide) ht9 hw
  clear hw
  obtain ⟨rfl, hw⟩ := hp
  refine GK.at (p2 := 18) rfl ?_
  refine gk_aload_n (pc := 18) C.1 0 dX9_digit_18 rfl rfl ?_
  refine gk_dup (pc := 19) C.1 dX9_digit_19 rfl ?_
  obtain ⟨ht, hw⟩ := hw
  refine gf_X9_26 (pc := 20) C ht dX9_digit_20 ?_
  refine gk_iconst (pc := 23) (v := 1) C.1 dX9_digit_23 (by decide) ?_
  refine gk_iadd (pc := 24) C.1 dX9_digit_24 ?_
  obtain ⟨ht, hw⟩ := hw
  refine gfp_X9_26 (pc := 25) C ht dX9_digit_25 (fun h_12 eh_12 => ?_)
  replace hw := hw h_12 eh_12
  refine gk_aload_n (pc := 28) C.1 0 dX9_digit_28 rfl rfl ?_
  obtain ⟨ht, hw⟩ := hw
  refine gf_X9_3 (pc := 29) C ht dX9_digit_29 (fun r_13 er_13 => ?_)
  replace hw := hw r_13 er_13
  obtain ⟨a_14, rfl, hw⟩ := hw
  obtain ⟨ht, hw⟩ := hw
  refine gf_X9_29 (pc := 32) C ht dX9_digit_32 (fun r_15 er_15 => ?_)
  replace hw := hw r_15 er_15
  refine gk_aload_n (pc := 35) C.1 0 dX9_digit_35 rfl rfl ?_
  obtain ⟨ht, hw⟩ := hw
  refine gf_X9_26 (pc := 36) C ht dX9_digit_36 ?_
  refine gk_iconst (pc := 39) (v := 1) C.1 dX9_digit_39 (by decide) ?_
  refine gk_isub (pc := 40) C.1 dX9_digit_40 ?_
  obtain ⟨a_16, rfl, hw⟩ := hw
  obtain ⟨ht, hi, hw⟩ := hw
  refine gh_cald (pc := 41) C ht hi dX9_digit_41 ?_
  refine gk_bipush (pc := 42) (v := 48) C.1 dX9_digit_42 (by decide) ?_
  refine gk_isub (pc := 44) C.1 dX9_digit_44 ?_
  exact gh_iret (pc := 45) C S0 hret dX9_digit_45 hw
/-! 183: GathersAllFaults$Reader.end()V -/
def wb_X9_end_17 (cl : CT) (lm : Nat × Nat) (Q : QT) (E : ET) (x0 : Nat) (s0 : Nat) (s1 : Int32) (h : HS) : Prop := dp_Reader_mustStand cl s0 [.int s1] h (gV (fun h_1 => (hT h_1 x0 = 15) ∧ (((1000000 ≤ (hI h_1 53 x0) → (Q none h_1)) ∧ (¬ 1000000 ≤ (hI h_1 53 x0) → (hZ h_1 + 1 ≤ lm.1 ∧ (hL h_1 + 7 ≤ lm.2 ∧ (∀ (a_6 : Nat) (h_5 : HS), a_6 = hZ h_1 → h_5 = hNew h_1 17 0 7 → ((hT h_5 x0 = 15) ∧ (cl 199 (.ref a_6 :: [.int ((-2000) - (hI h_5 53 x0))]) h_5 (gV (fun h_7 => (hT h_7 a_6 = 16 ∨ hT h_7 a_6 = 17) ∧ (E a_6 h_7))) E)))))))))) E
theorem wk_X9_end_17 {X : Ev} {G : GG} {cl : CT} {lm : Nat × Nat} {Q : QT} {E : ET} {h0 : HS} {d2 : Nat} (C : HC X G RX9 cX9_end (d2 + 1)) (hCl : CallsOK (ev_l X) G d2 cl ∧ hLm G lm ∧ 8 ≤ d2 ∧ LamsOK (ev_l X) G d2 cl) (S0 : HS0 X h0) (hret : (ev_h X).sig.returnType = (Option.none : Option Jvm.ClassFile.FieldType)) (hXn : ev_n X = 1) (hini : True) (hTb : (ev_c X).exceptionTable.toList = []) : ∀ (x0 : Nat) (s0 : Nat) (s1 : Int32) (h : HS), wb_X9_end_17 cl lm Q E x0 s0 s1 h → GH X G h (hQ X G h0 Q E) 17 [(0, .ref x0)] [.int s1, .ref s0] := by
  have hlm := hCl.2.1
  have hd8 := hCl.2.2.1
  have hd2 : 1 ≤ d2 := Nat.le_trans (by decide) hd8
  have hLa := hCl.2.2.2
  have hd1 : 1 ≤ d2 + 1 := Nat.le_add_left _ _
  have hC9 := hCl
  replace hCl := hCl.1
  intro x0 s0 s1 h hw
  unfold wb_X9_end_17 at hw
  refine gc_X9_42 (pc := 17) (As := [.int s1]) (rest := []) C hCl (Nat.le_refl _) hw rfl rfl (Nat.le_of_ble_eq_true rfl) dX9_end_17 (fun v9 h_1 hp => ?_) (fun q_2 h_3 hw ht9 => ?_)
  rotate_left
  · exact gx_out C S0 (by rw [hTb]; decide) ht9 hw
  clear hw
  obtain ⟨rfl, hw⟩ := hp
  refine GK.at (p2 := 20) rfl ?_
  refine gk_aload_n (pc := 20) C.1 0 dX9_end_20 rfl rfl ?_
  obtain ⟨ht, hw⟩ := hw
  refine gf_X9_23 (pc := 21) C ht dX9_end_21 ?_
  refine gk_ldc (pc := 24) (v := 1000000) C.1 q424 dX9_end_24 ?_
  refine gk_icmp_ge (pc := 26) (tgt := 45) C.1 dX9_end_26 (by decide) (fun c_4 => ?_) (fun c_4 => ?_)
  · replace hw := hw.1 c_4
    exact gh_vret (pc := 45) C S0 hret dX9_end_45 hw
  · replace hw := hw.2 c_4
    obtain ⟨hr1, hr2, hw⟩ := hw
    refine gn_X9_33 (pc := 29) C (hlm.1 ▸ hr1) (hlm.2 ▸ hr2) dX9_end_29 (fun h_5 eh_5 => ?_)
    obtain ⟨a_6, ea_6⟩ : ∃ z : Nat, z = hZ h_1 := ⟨_, rfl⟩
    rw [← ea_6]
    replace hw := hw a_6 h_5 ea_6 eh_5
    refine gk_dup (pc := 32) C.1 dX9_end_32 rfl ?_
    refine gk_sipush (pc := 33) (v := (-2000)) C.1 dX9_end_33 (by decide) ?_
    refine gk_aload_n (pc := 36) C.1 0 dX9_end_36 rfl rfl ?_
    obtain ⟨ht, hw⟩ := hw
    refine gf_X9_23 (pc := 37) C ht dX9_end_37 ?_
    refine gk_isub (pc := 40) C.1 dX9_end_40 ?_
    refine gc_X9_35 (pc := 41) (As := [.int ((-2000) - (hI h_5 53 x0))]) (rest := [.ref a_6]) C hCl (Nat.le_refl _) hw rfl rfl (Nat.le_of_ble_eq_true rfl) dX9_end_41 (fun v9 h_7 hp => ?_) (fun q_8 h_9 hw ht9 => ?_)
    rotate_left
    · exact gx_out C S0 (by rw [hTb]; decide) ht9 hw
    clear hw
    obtain ⟨rfl, hw⟩ := hp
    refine GK.at (p2 := 44) rfl ?_
    refine gh_athrow (pc := 44) C dX9_end_44 ?_
    obtain ⟨ht9, hw⟩ := hw
    exact gx_out C S0 (by rw [hTb]; decide) ht9 hw
def wb_X9_end (cl : CT) (lm : Nat × Nat) (Q : QT) (E : ET) (x0 : Nat) (h : HS) : Prop := (hT h x0 = 15) ∧ ((hT h x0 = 15) ∧ (((¬ (hI h 49 x0) = (hI h 48 x0) → (wb_X9_end_17 cl lm Q E x0 x0 0 h)) ∧ ((hI h 49 x0) = (hI h 48 x0) → (wb_X9_end_17 cl lm Q E x0 x0 1 h)))))
theorem wx_X9_end {l : Launch} (hst : l.stackTraces = false) {G : GG} {cl : CT} {lm : Nat × Nat} {Q : QT} {E : ET} {d2 : Nat} (hCl : CallsOK l G d2 cl ∧ hLm G lm ∧ 8 ≤ d2 ∧ LamsOK l G d2 cl) {x0 : Nat} {h : HS} (hw : wb_X9_end cl lm Q E x0 h) : HMet l G yX9_end (ws_ yX9_end cX9_end 1 ((Option.none : Option Jvm.ClassFile.FieldType))) (d2 + 1) [.ref x0] h Q E := by
  refine gh_met (own := RX9) rfl (by decide +kernel) hst (by simp only [lg_sl_i, lg_sl_r, lg_sl_a, lg_sl_2, lg_sl_f, lg_sl_0]; decide) (fun X hXl hXn hret hnm hTb h0 eh C S0 => ?_)
  subst hXl
  have hlm := hCl.2.1
  have hd8 := hCl.2.2.1
  have hd2 : 1 ≤ d2 := Nat.le_trans (by decide) hd8
  have hLa := hCl.2.2.2
  have hd1 : 1 ≤ d2 + 1 := Nat.le_add_left _ _
  have hC9 := hCl
  replace hCl := hCl.1
  have hini : True := trivial
  unfold wb_X9_end at hw
  refine GK.sub (lv' := [(0, .ref x0)]) [0] (by simp only [lv_args_i, lv_args_r, lv_args_a, lv_args_l, lv_args_f, lv_args_0]; rfl) ?_
  refine gk_aload_n (pc := 0) C.1 0 dX9_end_0 rfl rfl ?_
  refine gk_aload_n (pc := 1) C.1 0 dX9_end_1 rfl rfl ?_
  obtain ⟨ht, hw⟩ := hw
  refine gf_X9_26 (pc := 2) C ht dX9_end_2 ?_
  refine gk_aload_n (pc := 5) C.1 0 dX9_end_5 rfl rfl ?_
  obtain ⟨ht, hw⟩ := hw
  refine gf_X9_19 (pc := 6) C ht dX9_end_6 ?_
  refine gk_icmp_ne (pc := 9) (tgt := 16) C.1 dX9_end_9 (by decide) (fun c_1 => ?_) (fun c_1 => ?_)
  · replace hw := hw.1 c_1
    refine gk_iconst (pc := 16) (v := 0) C.1 dX9_end_16 (by decide) ?_
    refine GK.sub (lv' := [(0, .ref x0)]) [0] rfl ?_
    exact wk_X9_end_17 C hC9 S0 hret hXn hini hTb  _ _ _ _ hw
  · replace hw := hw.2 c_1
    refine gk_iconst (pc := 12) (v := 1) C.1 dX9_end_12 (by decide) ?_
    refine gk_goto (pc := 13) (tgt := 17) C.1 dX9_end_13 (by decide) ?_
    refine GK.sub (lv' := [(0, .ref x0)]) [0] rfl ?_
    exact wk_X9_end_17 C hC9 S0 hret hXn hini hTb  _ _ _ _ hw
/-! 184: GathersAllFaults$Reader.here()I -/
def wb_X9_here (cl : CT) (lm : Nat × Nat) (Q : QT) (E : ET) (x0 : Nat) (h : HS) : Prop := (hT h x0 = 15) ∧ ((hT h x0 = 15) ∧ ((((hI h 48 x0) ≤ (hI h 49 x0) → (Q (some (.int (-1))) h)) ∧ (¬ (hI h 48 x0) ≤ (hI h 49 x0) → ((hT h x0 = 15) ∧ (∀ r_2 : Option Nat, r_2 = hR h 54 x0 → (∃ a_3 : Nat, r_2 = some a_3 ∧ ((hT h a_3 = 1) ∧ (∀ r_4 : Option Nat, r_4 = hR h 7 a_3 → ((hT h x0 = 15) ∧ (∃ a_5 : Nat, r_4 = some a_5 ∧ (hT h a_5 = 103 ∧ (vp_in (hI h 49 x0) (hN h a_5) ∧ (Q (some (.int (hA h a_5 (hI h 49 x0).toNatClampNeg))) h))))))))))))))
theorem wx_X9_here {l : Launch} (hst : l.stackTraces = false) {G : GG} {cl : CT} {lm : Nat × Nat} {Q : QT} {E : ET} {d2 : Nat} (hCl : CallsOK l G d2 cl ∧ hLm G lm ∧ 8 ≤ d2 ∧ LamsOK l G d2 cl) {x0 : Nat} {h : HS} (hw : wb_X9_here cl lm Q E x0 h) : HMet l G yX9_here (ws_ yX9_here cX9_here 1 ((Option.some Jvm.ClassFile.FieldType.int))) (d2 + 1) [.ref x0] h Q E := by
  refine gh_met (own := RX9) rfl (by decide +kernel) hst (by simp only [lg_sl_i, lg_sl_r, lg_sl_a, lg_sl_2, lg_sl_f, lg_sl_0]; decide) (fun X hXl hXn hret hnm hTb h0 eh C S0 => ?_)
  subst hXl
  have hlm := hCl.2.1
  have hd8 := hCl.2.2.1
  have hd2 : 1 ≤ d2 := Nat.le_trans (by decide) hd8
  have hLa := hCl.2.2.2
  have hd1 : 1 ≤ d2 + 1 := Nat.le_add_left _ _
  have hC9 := hCl
  replace hCl := hCl.1
  have hini : True := trivial
  unfold wb_X9_here at hw
  refine GK.sub (lv' := [(0, .ref x0)]) [0] (by simp only [lv_args_i, lv_args_r, lv_args_a, lv_args_l, lv_args_f, lv_args_0]; rfl) ?_
  refine gk_aload_n (pc := 0) C.1 0 dX9_here_0 rfl rfl ?_
  obtain ⟨ht, hw⟩ := hw
  refine gf_X9_26 (pc := 1) C ht dX9_here_1 ?_
  refine gk_aload_n (pc := 4) C.1 0 dX9_here_4 rfl rfl ?_
  obtain ⟨ht, hw⟩ := hw
  refine gf_X9_19 (pc := 5) C ht dX9_here_5 ?_
  refine gk_icmp_ge (pc := 8) (tgt := 26) C.1 dX9_here_8 (by decide) (fun c_1 => ?_) (fun c_1 => ?_)
  · replace hw := hw.1 c_1
    refine gk_iconst (pc := 26) (v := (-1)) C.1 dX9_here_26 (by decide) ?_
    exact gh_iret (pc := 27) C S0 hret dX9_here_27 hw
  · replace hw := hw.2 c_1
    refine gk_aload_n (pc := 11) C.1 0 dX9_here_11 rfl rfl ?_
    obtain ⟨ht, hw⟩ := hw
    refine gf_X9_3 (pc := 12) C ht dX9_here_12 (fun r_2 er_2 => ?_)
    replace hw := hw r_2 er_2
    obtain ⟨a_3, rfl, hw⟩ := hw
    obtain ⟨ht, hw⟩ := hw
    refine gf_X9_29 (pc := 15) C ht dX9_here_15 (fun r_4 er_4 => ?_)
    replace hw := hw r_4 er_4
    refine gk_aload_n (pc := 18) C.1 0 dX9_here_18 rfl rfl ?_
    obtain ⟨ht, hw⟩ := hw
    refine gf_X9_26 (pc := 19) C ht dX9_here_19 ?_
    obtain ⟨a_5, rfl, hw⟩ := hw
    obtain ⟨ht, hi, hw⟩ := hw
    refine gh_cald (pc := 22) C ht hi dX9_here_22 ?_
    refine gk_goto (pc := 23) (tgt := 27) C.1 dX9_here_23 (by decide) ?_
    exact gh_iret (pc := 27) C S0 hret dX9_here_27 hw
/-! 185: GathersAllFaults$Reader.<init>(LGathersAllFaults;)V -/
def wb_X9_init (cl : CT) (lm : Nat × Nat) (Q : QT) (E : ET) (x0 : Nat) (x1 : Option Nat) (h : HS) : Prop := (hT h x0 = 15) ∧ (∀ h_1 : HS, h_1 = sR h 54 x0 x1 → ((hT h_1 x0 = 15) ∧ (∀ r_2 : Option Nat, r_2 = hR h_1 54 x0 → (∃ a_3 : Nat, r_2 = some a_3 ∧ ((hT h_1 a_3 = 1) ∧ ((hT h_1 x0 = 15) ∧ (∀ h_4 : HS, h_4 = sI h_1 48 x0 (hI h_1 8 a_3) → ((hT h_4 x0 = 15) ∧ (∀ h_5 : HS, h_5 = sI h_4 53 x0 1000000 → (Q none h_5))))))))))
theorem wx_X9_init {l : Launch} (hst : l.stackTraces = false) {G : GG} {cl : CT} {lm : Nat × Nat} {Q : QT} {E : ET} {d2 : Nat} (hCl : CallsOK l G d2 cl ∧ hLm G lm ∧ 8 ≤ d2 ∧ LamsOK l G d2 cl) {x0 : Nat} {x1 : Option Nat} {h : HS} (hw : wb_X9_init cl lm Q E x0 x1 h) : HMet l G yX9_init (ws_ yX9_init cX9_init 2 ((Option.none : Option Jvm.ClassFile.FieldType))) (d2 + 1) [.ref x0, va_rf x1] h Q E := by
  refine gh_met (own := RX9) rfl (by decide +kernel) hst (by simp only [lg_sl_i, lg_sl_r, lg_sl_a, lg_sl_2, lg_sl_f, lg_sl_0]; decide) (fun X hXl hXn hret hnm hTb h0 eh C S0 => ?_)
  subst hXl
  have hlm := hCl.2.1
  have hd8 := hCl.2.2.1
  have hd2 : 1 ≤ d2 := Nat.le_trans (by decide) hd8
  have hLa := hCl.2.2.2
  have hd1 : 1 ≤ d2 + 1 := Nat.le_add_left _ _
  have hC9 := hCl
  replace hCl := hCl.1
  have hini : (ev_h X).name = "<init>" := hnm.1
  unfold wb_X9_init at hw
  refine GK.sub (lv' := [(0, .ref x0), (1, va_rf x1)]) [0, 1] (by simp only [lv_args_i, lv_args_r, lv_args_a, lv_args_l, lv_args_f, lv_args_0]; rfl) ?_
  refine gk_aload_n (pc := 0) C.1 0 dX9_init_0 rfl rfl ?_
  refine gk_qload_n (pc := 1) C.1 1 dX9_init_1 rfl rfl ?_
  obtain ⟨ht, hw⟩ := hw
  refine gfp_X9_3 (pc := 2) (r := x1) C hini ht dX9_init_2 (fun h_1 eh_1 => ?_)
  replace hw := hw h_1 eh_1
  refine gk_aload_n (pc := 5) C.1 0 dX9_init_5 rfl rfl ?_
  refine gh_obj (pc := 6) C hd1 q423 (Nat.le_of_ble_eq_true rfl) dX9_init_6 ?_
  refine gk_aload_n (pc := 9) C.1 0 dX9_init_9 rfl rfl ?_
  refine gk_aload_n (pc := 10) C.1 0 dX9_init_10 rfl rfl ?_
  obtain ⟨ht, hw⟩ := hw
  refine gf_X9_3 (pc := 11) C ht dX9_init_11 (fun r_2 er_2 => ?_)
  replace hw := hw r_2 er_2
  obtain ⟨a_3, rfl, hw⟩ := hw
  obtain ⟨ht, hw⟩ := hw
  refine gf_X9_15 (pc := 14) C ht dX9_init_14 ?_
  obtain ⟨ht, hw⟩ := hw
  refine gfp_X9_19 (pc := 17) C hini ht dX9_init_17 (fun h_4 eh_4 => ?_)
  replace hw := hw h_4 eh_4
  refine gk_aload_n (pc := 20) C.1 0 dX9_init_20 rfl rfl ?_
  refine gk_ldc (pc := 21) (v := 1000000) C.1 q424 dX9_init_21 ?_
  obtain ⟨ht, hw⟩ := hw
  refine gfp_X9_23 (pc := 23) C ht dX9_init_23 (fun h_5 eh_5 => ?_)
  replace hw := hw h_5 eh_5
  exact gh_vret (pc := 26) C S0 hret dX9_init_26 hw
/-! 186: GathersAllFaults$Reader.lambda$check$0(LGathersAllFaults$Value;ILGathersAllFaults$Finding;)V -/
def wb_X9_lambda_check_0 (cl : CT) (lm : Nat × Nat) (Q : QT) (E : ET) (x0 : Option Nat) (x1 : Int32) (x2 : Option Nat) (h : HS) : Prop := Q none h
theorem wx_X9_lambda_check_0 {l : Launch} (hst : l.stackTraces = false) {G : GG} {cl : CT} {lm : Nat × Nat} {Q : QT} {E : ET} {d2 : Nat} (hCl : CallsOK l G d2 cl ∧ hLm G lm ∧ 8 ≤ d2 ∧ LamsOK l G d2 cl) {x0 : Option Nat} {x1 : Int32} {x2 : Option Nat} {h : HS} (hw : wb_X9_lambda_check_0 cl lm Q E x0 x1 x2 h) : HMet l G yX9_lambda_check_0 (ws_ yX9_lambda_check_0 cX9_lambda_check_0 3 ((Option.none : Option Jvm.ClassFile.FieldType))) (d2 + 1) [va_rf x0, .int x1, va_rf x2] h Q E := by
  refine gh_met (own := RX9) rfl (by decide +kernel) hst (by simp only [lg_sl_i, lg_sl_r, lg_sl_a, lg_sl_2, lg_sl_f, lg_sl_0]; decide) (fun X hXl hXn hret hnm hTb h0 eh C S0 => ?_)
  subst hXl
  have hlm := hCl.2.1
  have hd8 := hCl.2.2.1
  have hd2 : 1 ≤ d2 := Nat.le_trans (by decide) hd8
  have hLa := hCl.2.2.2
  have hd1 : 1 ≤ d2 + 1 := Nat.le_add_left _ _
  have hC9 := hCl
  replace hCl := hCl.1
  have hini : True := trivial
  unfold wb_X9_lambda_check_0 at hw
  refine GK.sub (lv' := [(0, va_rf x0), (1, .int x1), (2, va_rf x2)]) [0, 1, 2] (by simp only [lv_args_i, lv_args_r, lv_args_a, lv_args_l, lv_args_f, lv_args_0]; rfl) ?_
  exact gh_vret (pc := 0) C S0 hret dX9_lambda_check_0_0 hw
/-! 187: GathersAllFaults$Reader.lambda$record$1(LGathersAllFaults$Value;LGathersAllFaults$Value;)Z -/
def wb_X9_lambda_record_1 (cl : CT) (lm : Nat × Nat) (Q : QT) (E : ET) (x0 : Option Nat) (x1 : Option Nat) (h : HS) : Prop := cl 81 [va_rf x0, va_rf x1] h (gI (fun r_2 h_1 => bz r_2 ∧ Q (some (.int r_2)) h_1)) E
theorem wx_X9_lambda_record_1 {l : Launch} (hst : l.stackTraces = false) {G : GG} {cl : CT} {lm : Nat × Nat} {Q : QT} {E : ET} {d2 : Nat} (hCl : CallsOK l G d2 cl ∧ hLm G lm ∧ 8 ≤ d2 ∧ LamsOK l G d2 cl) {x0 : Option Nat} {x1 : Option Nat} {h : HS} (hw : wb_X9_lambda_record_1 cl lm Q E x0 x1 h) : HMet l G yX9_lambda_record_1 (ws_ yX9_lambda_record_1 cX9_lambda_record_1 2 ((Option.some Jvm.ClassFile.FieldType.boolean))) (d2 + 1) [va_rf x0, va_rf x1] h Q E := by
  refine gh_met (own := RX9) rfl (by decide +kernel) hst (by simp only [lg_sl_i, lg_sl_r, lg_sl_a, lg_sl_2, lg_sl_f, lg_sl_0]; decide) (fun X hXl hXn hret hnm hTb h0 eh C S0 => ?_)
  subst hXl
  have hlm := hCl.2.1
  have hd8 := hCl.2.2.1
  have hd2 : 1 ≤ d2 := Nat.le_trans (by decide) hd8
  have hLa := hCl.2.2.2
  have hd1 : 1 ≤ d2 + 1 := Nat.le_add_left _ _
  have hC9 := hCl
  replace hCl := hCl.1
  have hini : True := trivial
  unfold wb_X9_lambda_record_1 at hw
  refine GK.sub (lv' := [(0, va_rf x0), (1, va_rf x1)]) [0, 1] (by simp only [lv_args_i, lv_args_r, lv_args_a, lv_args_l, lv_args_f, lv_args_0]; rfl) ?_
  refine gk_qload_n (pc := 0) C.1 0 dX9_lambda_record_1_0 rfl rfl ?_
  refine gk_qload_n (pc := 1) C.1 1 dX9_lambda_record_1_1 rfl rfl ?_
  refine gc_X9_205 (pc := 2) (As := [va_rf x0, va_rf x1]) (rest := []) C hCl (Nat.le_refl _) hw rfl rfl (Nat.le_of_ble_eq_true rfl) dX9_lambda_record_1_2 (fun v9 h_1 hp => ?_) (fun q_3 h_4 hw ht9 => ?_)
  rotate_left
  · exact gx_out C S0 (by rw [hTb]; decide) ht9 hw
  clear hw
  obtain ⟨r_2, rfl, hw⟩ := hp
  refine GK.at (p2 := 5) rfl ?_
  obtain ⟨hz, hw⟩ := hw
  exact gh_zret (pc := 5) C S0 hret dX9_lambda_record_1_5 hz hw
/-! 188: GathersAllFaults$Reader.lambda$record$2(LGathersAllFaults$Value;LGathersAllFaults$Value;)Z -/
def wb_X9_lambda_record_2 (cl : CT) (lm : Nat × Nat) (Q : QT) (E : ET) (x0 : Option Nat) (x1 : Option Nat) (h : HS) : Prop := ∃ a_1 : Nat, x0 = some a_1 ∧ (dp_Value_equals cl a_1 [va_rf x1] h (gI (fun r_3 h_2 => bz r_3 ∧ Q (some (.int r_3)) h_2)) E)
theorem wx_X9_lambda_record_2 {l : Launch} (hst : l.stackTraces = false) {G : GG} {cl : CT} {lm : Nat × Nat} {Q : QT} {E : ET} {d2 : Nat} (hCl : CallsOK l G d2 cl ∧ hLm G lm ∧ 8 ≤ d2 ∧ LamsOK l G d2 cl) {x0 : Option Nat} {x1 : Option Nat} {h : HS} (hw : wb_X9_lambda_record_2 cl lm Q E x0 x1 h) : HMet l G yX9_lambda_record_2 (ws_ yX9_lambda_record_2 cX9_lambda_record_2 2 ((Option.some Jvm.ClassFile.FieldType.boolean))) (d2 + 1) [va_rf x0, va_rf x1] h Q E := by
  refine gh_met (own := RX9) rfl (by decide +kernel) hst (by simp only [lg_sl_i, lg_sl_r, lg_sl_a, lg_sl_2, lg_sl_f, lg_sl_0]; decide) (fun X hXl hXn hret hnm hTb h0 eh C S0 => ?_)
  subst hXl
  have hlm := hCl.2.1
  have hd8 := hCl.2.2.1
  have hd2 : 1 ≤ d2 := Nat.le_trans (by decide) hd8
  have hLa := hCl.2.2.2
  have hd1 : 1 ≤ d2 + 1 := Nat.le_add_left _ _
  have hC9 := hCl
  replace hCl := hCl.1
  have hini : True := trivial
  unfold wb_X9_lambda_record_2 at hw
  refine GK.sub (lv' := [(0, va_rf x0), (1, va_rf x1)]) [0, 1] (by simp only [lv_args_i, lv_args_r, lv_args_a, lv_args_l, lv_args_f, lv_args_0]; rfl) ?_
  refine gk_qload_n (pc := 0) C.1 0 dX9_lambda_record_2_0 rfl rfl ?_
  refine gk_qload_n (pc := 1) C.1 1 dX9_lambda_record_2_1 rfl rfl ?_
  obtain ⟨a_1, rfl, hw⟩ := hw
  refine gc_X9_202 (pc := 2) (As := [va_rf x1]) (rest := []) C hCl (Nat.le_refl _) hw rfl rfl (Nat.le_of_ble_eq_true rfl) dX9_lambda_record_2_2 (fun v9 h_2 hp => ?_) (fun q_4 h_5 hw ht9 => ?_)
  rotate_left
  · exact gx_out C S0 (by rw [hTb]; decide) ht9 hw
  clear hw
  obtain ⟨r_3, rfl, hw⟩ := hp
  refine GK.at (p2 := 5) rfl ?_
  obtain ⟨hz, hw⟩ := hw
  exact gh_zret (pc := 5) C S0 hret dX9_lambda_record_2_5 hz hw
/-! 189: GathersAllFaults$Reader.list(I)LGathersAllFaults$Value; -/
def wb_X9_list_102 (cl : CT) (lm : Nat × Nat) (Q : QT) (E : ET) (J24 : Nat → Int32 → Nat → Int32 → Int32 → HS → Prop) (x0 : Nat) (x1 : Int32) (x2 : Nat) (x3 : Int32) (x4 : Int32) (s0 : Nat) (s1 : Int32) (s2 : Int32) (h : HS) : Prop := (hT h s0 = 15) ∧ (∀ h_1 : HS, h_1 = sI h 49 s0 (s1 + s2) → (J24 x0 x1 x2 x3 x4 h_1))
theorem wk_X9_list_102 {X : Ev} {G : GG} {cl : CT} {lm : Nat × Nat} {Q : QT} {E : ET} {h0 : HS} {d2 : Nat} {J24 : Nat → Int32 → Nat → Int32 → Int32 → HS → Prop} (C : HC X G RX9 cX9_list (d2 + 1)) (hCl : CallsOK (ev_l X) G d2 cl ∧ hLm G lm ∧ 8 ≤ d2 ∧ LamsOK (ev_l X) G d2 cl) (S0 : HS0 X h0) (hret : (ev_h X).sig.returnType = (Option.some (Jvm.ClassFile.FieldType.object "GathersAllFaults$Value"))) (hXn : ev_n X = 6) (hini : True) (hTb : (ev_c X).exceptionTable.toList = []) (hJ24 : ∀ (x0 : Nat) (x1 : Int32) (x2 : Nat) (x3 : Int32) (x4 : Int32) (h : HS), J24 x0 x1 x2 x3 x4 h → GH X G h (hQ X G h0 Q E) 24 [(0, .ref x0), (1, .int x1), (2, .ref x2), (3, .int x3), (4, .int x4)] []) : ∀ (x0 : Nat) (x1 : Int32) (x2 : Nat) (x3 : Int32) (x4 : Int32) (s0 : Nat) (s1 : Int32) (s2 : Int32) (h : HS), wb_X9_list_102 cl lm Q E J24 x0 x1 x2 x3 x4 s0 s1 s2 h → GH X G h (hQ X G h0 Q E) 102 [(0, .ref x0), (1, .int x1), (2, .ref x2), (3, .int x3), (4, .int x4)] [.int s2, .int s1, .ref s0] := by
  have hlm := hCl.2.1
  have hd8 := hCl.2.2.1
  have hd2 : 1 ≤ d2 := Nat.le_trans (by decide) hd8
  have hLa := hCl.2.2.2
  have hd1 : 1 ≤ d2 + 1 := Nat.le_add_left _ _
  have hC9 := hCl
  replace hCl := hCl.1
  intro x0 x1 x2 x3 x4 s0 s1 s2 h hw
  unfold wb_X9_list_102 at hw
  refine gk_iadd (pc := 102) C.1 dX9_list_102 ?_
  obtain ⟨ht, hw⟩ := hw
  refine gfp_X9_26 (pc := 103) C ht dX9_list_103 (fun h_1 eh_1 => ?_)
  replace hw := hw h_1 eh_1
  refine gk_goto (pc := 106) (tgt := 24) C.1 dX9_list_106 (by decide) ?_
  refine GK.sub (lv' := [(0, .ref x0), (1, .int x1), (2, .ref x2), (3, .int x3), (4, .int x4)]) [0, 1, 2, 3, 4] rfl ?_
  exact hJ24 _ _ _ _ _ _ hw
def wb_X9_list_85 (cl : CT) (lm : Nat × Nat) (Q : QT) (E : ET) (J24 : Nat → Int32 → Nat → Int32 → Int32 → HS → Prop) (x0 : Nat) (x1 : Int32) (x2 : Nat) (x3 : Int32) (s0 : Int32) (h : HS) : Prop := (hT h x0 = 15) ∧ (((s0 = 0 → (wb_X9_list_102 cl lm Q E J24 x0 x1 x2 x3 s0 x0 (hI h 49 x0) 0 h)) ∧ (¬ s0 = 0 → (wb_X9_list_102 cl lm Q E J24 x0 x1 x2 x3 s0 x0 (hI h 49 x0) 1 h))))
theorem wk_X9_list_85 {X : Ev} {G : GG} {cl : CT} {lm : Nat × Nat} {Q : QT} {E : ET} {h0 : HS} {d2 : Nat} {J24 : Nat → Int32 → Nat → Int32 → Int32 → HS → Prop} (C : HC X G RX9 cX9_list (d2 + 1)) (hCl : CallsOK (ev_l X) G d2 cl ∧ hLm G lm ∧ 8 ≤ d2 ∧ LamsOK (ev_l X) G d2 cl) (S0 : HS0 X h0) (hret : (ev_h X).sig.returnType = (Option.some (Jvm.ClassFile.FieldType.object "GathersAllFaults$Value"))) (hXn : ev_n X = 6) (hini : True) (hTb : (ev_c X).exceptionTable.toList = []) (hJ24 : ∀ (x0 : Nat) (x1 : Int32) (x2 : Nat) (x3 : Int32) (x4 : Int32) (h : HS), J24 x0 x1 x2 x3 x4 h → GH X G h (hQ X G h0 Q E) 24 [(0, .ref x0), (1, .int x1), (2, .ref x2), (3, .int x3), (4, .int x4)] []) : ∀ (x0 : Nat) (x1 : Int32) (x2 : Nat) (x3 : Int32) (s0 : Int32) (h : HS), wb_X9_list_85 cl lm Q E J24 x0 x1 x2 x3 s0 h → GH X G h (hQ X G h0 Q E) 85 [(0, .ref x0), (1, .int x1), (2, .ref x2), (3, .int x3)] [.int s0] := by
  have hlm := hCl.2.1
  have hd8 := hCl.2.2.1
  have hd2 : 1 ≤ d2 := Nat.le_trans (by decide) hd8
  have hLa := hCl.2.2.2
  have hd1 : 1 ≤ d2 + 1 := Nat.le_add_left _ _
  have hC9 := hCl
  replace hCl := hCl.1
  intro x0 x1 x2 x3 s0 h hw
  unfold wb_X9_list_85 at hw
  refine gk_istore (pc := 85) (lv' := [(4, Value.int s0), (0, Value.ref x0), (1, Value.int x1), (2, Value.ref x2), (3, Value.int x3)]) C.1 dX9_list_85 (by rw [hXn]; decide) (by first | rfl | simp [va_rf_S, va_rf_cat, cat_i, cat_a, cat_l, cat_f, fin4_0, fin4_1, fin4_2, fin4_3]) ?_
  refine gk_aload_n (pc := 87) C.1 1 dX9_list_87 rfl rfl ?_
  refine gk_dup (pc := 88) C.1 dX9_list_88 rfl ?_
  obtain ⟨ht, hw⟩ := hw
  refine gf_X9_26 (pc := 89) C ht dX9_list_89 ?_
  refine gk_iload (pc := 92) C.1 0 dX9_list_92 rfl ?_
  refine gk_if_eq (pc := 94) (tgt := 101) C.1 dX9_list_94 (by decide) (fun c_1 => ?_) (fun c_1 => ?_)
  · replace hw := hw.1 c_1
    refine gk_iconst (pc := 101) (v := 0) C.1 dX9_list_101 (by decide) ?_
    refine GK.sub (lv' := [(0, .ref x0), (1, .int x1), (2, .ref x2), (3, .int x3), (4, .int s0)]) [1, 2, 3, 4, 0] rfl ?_
    exact wk_X9_list_102 C hC9 S0 hret hXn hini hTb hJ24 _ _ _ _ _ _ _ _ _ hw
  · replace hw := hw.2 c_1
    refine gk_iconst (pc := 97) (v := 1) C.1 dX9_list_97 (by decide) ?_
    refine gk_goto (pc := 98) (tgt := 102) C.1 dX9_list_98 (by decide) ?_
    refine GK.sub (lv' := [(0, .ref x0), (1, .int x1), (2, .ref x2), (3, .int x3), (4, .int s0)]) [1, 2, 3, 4, 0] rfl ?_
    exact wk_X9_list_102 C hC9 S0 hret hXn hini hTb hJ24 _ _ _ _ _ _ _ _ _ hw
def wb_X9_list_40 (cl : CT) (lm : Nat × Nat) (Q : QT) (E : ET) (J24 : Nat → Int32 → Nat → Int32 → Int32 → HS → Prop) (x0 : Nat) (x1 : Int32) (x2 : Nat) (x3 : Int32) (s0 : Nat) (s1 : Int32) (h : HS) : Prop := (hT h x0 = 15) ∧ (dp_Reader_wrong cl s0 [.int s1, .int (hI h 49 x0)] h (gV (fun h_1 => dp_Reader_under cl x0 [.int x1, .int (if (6 + x3) < 9 then (6 + x3) else 9)] h_1 (gI (fun r_5 h_4 => dp_Reader_value cl x0 [.int r_5] h_4 (gR (fun r_9 h_8 => hT h_8 x2 = 114 ∧ (vp_in x3 (hN h_8 x2) ∧ (as_X1 h_8 r_9 ∧ (∀ h_12 : HS, h_12 = sB h_8 x2 x3.toNatClampNeg r_9 → (∀ x_13 : Int32, x_13 = x3 + 1 → (dp_Reader_here cl x0 [] h_12 (gI (fun r_15 h_14 => ((¬ r_15 = 44 → (wb_X9_list_85 cl lm Q E J24 x0 x1 x2 x_13 0 h_14)) ∧ (r_15 = 44 → (wb_X9_list_85 cl lm Q E J24 x0 x1 x2 x_13 1 h_14))))) E))))))) E)) E)) E)
theorem wk_X9_list_40 {X : Ev} {G : GG} {cl : CT} {lm : Nat × Nat} {Q : QT} {E : ET} {h0 : HS} {d2 : Nat} {J24 : Nat → Int32 → Nat → Int32 → Int32 → HS → Prop} (C : HC X G RX9 cX9_list (d2 + 1)) (hCl : CallsOK (ev_l X) G d2 cl ∧ hLm G lm ∧ 8 ≤ d2 ∧ LamsOK (ev_l X) G d2 cl) (S0 : HS0 X h0) (hret : (ev_h X).sig.returnType = (Option.some (Jvm.ClassFile.FieldType.object "GathersAllFaults$Value"))) (hXn : ev_n X = 6) (hini : True) (hTb : (ev_c X).exceptionTable.toList = []) (hJ24 : ∀ (x0 : Nat) (x1 : Int32) (x2 : Nat) (x3 : Int32) (x4 : Int32) (h : HS), J24 x0 x1 x2 x3 x4 h → GH X G h (hQ X G h0 Q E) 24 [(0, .ref x0), (1, .int x1), (2, .ref x2), (3, .int x3), (4, .int x4)] []) : ∀ (x0 : Nat) (x1 : Int32) (x2 : Nat) (x3 : Int32) (s0 : Nat) (s1 : Int32) (h : HS), wb_X9_list_40 cl lm Q E J24 x0 x1 x2 x3 s0 s1 h → GH X G h (hQ X G h0 Q E) 40 [(0, .ref x0), (1, .int x1), (2, .ref x2), (3, .int x3)] [.int s1, .ref s0] := by
  have hlm := hCl.2.1
  have hd8 := hCl.2.2.1
  have hd2 : 1 ≤ d2 := Nat.le_trans (by decide) hd8
  have hLa := hCl.2.2.2
  have hd1 : 1 ≤ d2 + 1 := Nat.le_add_left _ _
  have hC9 := hCl
  replace hCl := hCl.1
  intro x0 x1 x2 x3 s0 s1 h hw
  unfold wb_X9_list_40 at hw
  refine gk_aload_n (pc := 40) C.1 0 dX9_list_40 rfl rfl ?_
  obtain ⟨ht, hw⟩ := hw
  refine gf_X9_26 (pc := 41) C ht dX9_list_41 ?_
  refine gc_X9_63 (pc := 44) (As := [.int s1, .int (hI h 49 x0)]) (rest := []) C hCl (Nat.le_refl _) hw rfl rfl (Nat.le_of_ble_eq_true rfl) dX9_list_44 (fun v9 h_1 hp => ?_) (fun q_2 h_3 hw ht9 => ?_)
  rotate_left
  · exact gx_out C S0 (by rw [hTb]; decide) ht9 hw
  clear hw
  obtain ⟨rfl, hw⟩ := hp
  refine GK.at (p2 := 47) rfl ?_
  refine gk_aload_n (pc := 47) C.1 2 dX9_list_47 rfl rfl ?_
  refine gk_iload_n (pc := 48) C.1 3 dX9_list_48 rfl rfl ?_
  refine gk_aload_n (pc := 49) C.1 0 dX9_list_49 rfl rfl ?_
  refine gk_aload_n (pc := 50) C.1 0 dX9_list_50 rfl rfl ?_
  refine gk_iload_n (pc := 51) C.1 1 dX9_list_51 rfl rfl ?_
  refine gk_bipush (pc := 52) (v := 9) C.1 dX9_list_52 (by decide) ?_
  refine gk_bipush (pc := 54) (v := 6) C.1 dX9_list_54 (by decide) ?_
  refine gk_iload_n (pc := 56) C.1 3 dX9_list_56 rfl rfl ?_
  refine gk_iadd (pc := 57) C.1 dX9_list_57 ?_
  refine gh_mmin (pc := 58) C hd1 q456 (Nat.le_of_ble_eq_true rfl) dX9_list_58 ?_
  refine gc_X9_99 (pc := 61) (As := [.int x1, .int (if (6 + x3) < 9 then (6 + x3) else 9)]) (rest := [.ref x0, .int x3, .ref x2]) C hCl (Nat.le_refl _) hw rfl rfl (Nat.le_of_ble_eq_true rfl) dX9_list_61 (fun v9 h_4 hp => ?_) (fun q_6 h_7 hw ht9 => ?_)
  rotate_left
  · exact gx_out C S0 (by rw [hTb]; decide) ht9 hw
  clear hw
  obtain ⟨r_5, rfl, hw⟩ := hp
  refine GK.at (p2 := 64) rfl ?_
  refine gc_X9_102 (pc := 64) (As := [.int r_5]) (rest := [.int x3, .ref x2]) C hCl (Nat.le_refl _) hw rfl rfl (Nat.le_of_ble_eq_true rfl) dX9_list_64 (fun v9 h_8 hp => ?_) (fun q_10 h_11 hw ht9 => ?_)
  rotate_left
  · exact gx_out C S0 (by rw [hTb]; decide) ht9 hw
  clear hw
  obtain ⟨r_9, rfl, hw⟩ := hp
  refine GK.at (p2 := 67) rfl ?_
  obtain ⟨ht, hi, hs, hw⟩ := hw
  refine gh_aast (pc := 67) (r := r_9) (t0 := 6) (E := "GathersAllFaults$Value") C ht (by decide) (by decide) rfl (as_X1_ok hs) hi dX9_list_67 ?_
  obtain ⟨h_12, eh_12⟩ : ∃ z : HS, z = sB h_8 x2 x3.toNatClampNeg r_9 := ⟨_, rfl⟩
  rw [← eh_12]
  replace hw := hw h_12 eh_12
  obtain ⟨x_13, ex_13⟩ : ∃ z : Int32, z = x3 + 1 := ⟨_, rfl⟩
  replace hw := hw x_13 ex_13
  refine gk_iinc (pc := 68) (v := x_13) (lv' := [(3, Value.int x_13), (0, Value.ref x0), (1, Value.int x1), (2, Value.ref x2)]) C.1 3 dX9_list_68 rfl (by rw [ex_13]; rfl) (by rw [hXn]; decide) (by first | rfl | simp [va_rf_S, va_rf_cat, cat_i, cat_a, cat_l, cat_f, fin4_0, fin4_1, fin4_2, fin4_3]) ?_
  refine gk_aload_n (pc := 71) C.1 1 dX9_list_71 rfl rfl ?_
  refine gc_X9_38 (pc := 72) (As := []) (rest := []) C hCl (Nat.le_refl _) hw rfl rfl (Nat.le_of_ble_eq_true rfl) dX9_list_72 (fun v9 h_14 hp => ?_) (fun q_16 h_17 hw ht9 => ?_)
  rotate_left
  · exact gx_out C S0 (by rw [hTb]; decide) ht9 hw
  clear hw
  obtain ⟨r_15, rfl, hw⟩ := hp
  refine GK.at (p2 := 75) rfl ?_
  refine gk_bipush (pc := 75) (v := 44) C.1 dX9_list_75 (by decide) ?_
  refine gk_icmp_ne (pc := 77) (tgt := 84) C.1 dX9_list_77 (by decide) (fun c_18 => ?_) (fun c_18 => ?_)
  · replace hw := hw.1 c_18
    refine gk_iconst (pc := 84) (v := 0) C.1 dX9_list_84 (by decide) ?_
    refine GK.sub (lv' := [(0, .ref x0), (1, .int x1), (2, .ref x2), (3, .int x_13)]) [1, 2, 3, 0] rfl ?_
    exact wk_X9_list_85 C hC9 S0 hret hXn hini hTb hJ24 _ _ _ _ _ _ hw
  · replace hw := hw.2 c_18
    refine gk_iconst (pc := 80) (v := 1) C.1 dX9_list_80 (by decide) ?_
    refine gk_goto (pc := 81) (tgt := 85) C.1 dX9_list_81 (by decide) ?_
    refine GK.sub (lv' := [(0, .ref x0), (1, .int x1), (2, .ref x2), (3, .int x_13)]) [1, 2, 3, 0] rfl ?_
    exact wk_X9_list_85 C hC9 S0 hret hXn hini hTb hJ24 _ _ _ _ _ _ hw
def wb_X9_list_24 (cl : CT) (lm : Nat × Nat) (Q : QT) (E : ET) : Nat → Nat → Int32 → Nat → Int32 → Int32 → HS → Prop
  | 0 => fun _ _ _ _ _ _ => False
  | n + 1 => fun x0 x1 x2 x3 x4 h => ((x4 = 0 → (dp_Reader_take cl x0 [.int 93] h (gV (fun h_2 => ¬ x3 < 0 ∧ (x3.toNatClampNeg * 4 ≤ 536870912 ∧ (hZ h_2 + 1 ≤ lm.1 ∧ (hL h_2 + x3.toNatClampNeg ≤ lm.2 ∧ (∀ (a_6 : Nat) (h_5 : HS), a_6 = hZ h_2 → h_5 = hNew h_2 114 x3.toNatClampNeg x3.toNatClampNeg → (hT h_5 x2 = 114 ∧ (hT h_5 a_6 = 114 ∧ (¬ (0 : Int32) < 0 ∧ (¬ (0 : Int32) < 0 ∧ (¬ x3 < 0 ∧ ((0 : Int32).toNatClampNeg + x3.toNatClampNeg ≤ hN h_5 x2 ∧ ((0 : Int32).toNatClampNeg + x3.toNatClampNeg ≤ hN h_5 a_6 ∧ ((∀ i : Nat, i < x3.toNatClampNeg → as_X1 h_5 (hB h_5 x2 ((0 : Int32).toNatClampNeg + i))) ∧ (∀ h_7 : HS, h_7 = sCpy h_5 a_6 x2 (0 : Int32).toNatClampNeg (0 : Int32).toNatClampNeg x3.toNatClampNeg → (hZ h_7 + 1 ≤ lm.1 ∧ (hL h_7 + 1 ≤ lm.2 ∧ (∀ (a_9 : Nat) (h_8 : HS), a_9 = hZ h_7 → h_8 = hNew h_7 5 0 1 → (cl 213 (.ref a_9 :: [.ref a_6]) h_8 (gV (fun h_10 => Q (some (va_rf (some a_9))) h_10)) E))))))))))))))))))) E)) ∧ (¬ x4 = 0 → (((x3 < 4 → (wb_X9_list_40 cl lm Q E (fun yx0 yx1 yx2 yx3 yx4 yh => wb_X9_list_24 cl lm Q E n yx0 yx1 yx2 yx3 yx4 yh) x0 x1 x2 x3 x0 0 h)) ∧ (¬ x3 < 4 → (wb_X9_list_40 cl lm Q E (fun yx0 yx1 yx2 yx3 yx4 yh => wb_X9_list_24 cl lm Q E n yx0 yx1 yx2 yx3 yx4 yh) x0 x1 x2 x3 x0 1 h))))))
theorem wk_X9_list_24 {X : Ev} {G : GG} {cl : CT} {lm : Nat × Nat} {Q : QT} {E : ET} {h0 : HS} {d2 : Nat} (C : HC X G RX9 cX9_list (d2 + 1)) (hCl : CallsOK (ev_l X) G d2 cl ∧ hLm G lm ∧ 8 ≤ d2 ∧ LamsOK (ev_l X) G d2 cl) (S0 : HS0 X h0) (hret : (ev_h X).sig.returnType = (Option.some (Jvm.ClassFile.FieldType.object "GathersAllFaults$Value"))) (hXn : ev_n X = 6) (hini : True) (hTb : (ev_c X).exceptionTable.toList = []) : ∀ (n : Nat) (x0 : Nat) (x1 : Int32) (x2 : Nat) (x3 : Int32) (x4 : Int32) (h : HS), wb_X9_list_24 cl lm Q E n x0 x1 x2 x3 x4 h → GH X G h (hQ X G h0 Q E) 24 [(0, .ref x0), (1, .int x1), (2, .ref x2), (3, .int x3), (4, .int x4)] [] := by
  have hlm := hCl.2.1
  have hd8 := hCl.2.2.1
  have hd2 : 1 ≤ d2 := Nat.le_trans (by decide) hd8
  have hLa := hCl.2.2.2
  have hd1 : 1 ≤ d2 + 1 := Nat.le_add_left _ _
  have hC9 := hCl
  replace hCl := hCl.1
  intro n
  induction n with
  | zero => intro x0 x1 x2 x3 x4 h hw; exact hw.elim
  | succ n ih =>
  intro x0 x1 x2 x3 x4 h hw
  unfold wb_X9_list_24 at hw
  refine gk_iload (pc := 24) C.1 4 dX9_list_24 rfl ?_
  refine gk_if_eq (pc := 26) (tgt := 109) C.1 dX9_list_26 (by decide) (fun c_1 => ?_) (fun c_1 => ?_)
  · replace hw := hw.1 c_1
    refine gk_aload_n (pc := 109) C.1 0 dX9_list_109 rfl rfl ?_
    refine gk_bipush (pc := 110) (v := 93) C.1 dX9_list_110 (by decide) ?_
    refine gc_X9_116 (pc := 112) (As := [.int 93]) (rest := []) C hCl (Nat.le_refl _) hw rfl rfl (Nat.le_of_ble_eq_true rfl) dX9_list_112 (fun v9 h_2 hp => ?_) (fun q_3 h_4 hw ht9 => ?_)
    rotate_left
    · exact gx_out C S0 (by rw [hTb]; decide) ht9 hw
    clear hw
    obtain ⟨rfl, hw⟩ := hp
    refine GK.at (p2 := 115) rfl ?_
    refine gk_iload_n (pc := 115) C.1 3 dX9_list_115 rfl rfl ?_
    obtain ⟨hn0, hby, hr1, hr2, hw⟩ := hw
    refine gh_anew (pc := 116) (t := 114) (t0 := 6) (E := "GathersAllFaults$Value") C ⟨by decide, by decide⟩ rfl q1204 q263 hn0 hby (hlm.1 ▸ hr1) (hlm.2 ▸ hr2) dX9_list_116 ?_
    obtain ⟨h_5, eh_5⟩ : ∃ z : HS, z = hNew h_2 114 x3.toNatClampNeg x3.toNatClampNeg := ⟨_, rfl⟩
    rw [← eh_5]
    obtain ⟨a_6, ea_6⟩ : ∃ z : Nat, z = hZ h_2 := ⟨_, rfl⟩
    rw [← ea_6]
    replace hw := hw a_6 h_5 ea_6 eh_5
    refine gk_astore (pc := 119) (lv' := [(5, Value.ref a_6), (0, Value.ref x0), (1, Value.int x1), (2, Value.ref x2), (3, Value.int x3), (4, Value.int x4)]) C.1 dX9_list_119 (by rw [hXn]; decide) (by first | rfl | simp [va_rf_S, va_rf_cat, cat_i, cat_a, cat_l, cat_f, fin4_0, fin4_1, fin4_2, fin4_3]) ?_
    refine gk_aload_n (pc := 121) C.1 3 dX9_list_121 rfl rfl ?_
    refine gk_iconst (pc := 122) (v := 0) C.1 dX9_list_122 (by decide) ?_
    refine gk_aload (pc := 123) C.1 0 dX9_list_123 rfl ?_
    refine gk_iconst (pc := 125) (v := 0) C.1 dX9_list_125 (by decide) ?_
    refine gk_iload_n (pc := 126) C.1 4 dX9_list_126 rfl rfl ?_
    obtain ⟨z1, z2, z3, z4, z5, z6, z7, z8, hw⟩ := hw
    refine gh_copy (pc := 127) (t0 := 6) (E := "GathersAllFaults$Value") C q1209 q1211 q1210 q171 z1 z2 (by decide) (by decide) rfl z3 z4 z5 z6 z7 (fun i hi y hy => as_X1_ok (z8 i hi) y hy) hd1 (Nat.le_of_ble_eq_true rfl) dX9_list_127 ?_
    obtain ⟨h_7, eh_7⟩ : ∃ z : HS, z = sCpy h_5 a_6 x2 (0 : Int32).toNatClampNeg (0 : Int32).toNatClampNeg x3.toNatClampNeg := ⟨_, rfl⟩
    rw [← eh_7]
    replace hw := hw h_7 eh_7
    obtain ⟨hr1, hr2, hw⟩ := hw
    refine gn_X9_125 (pc := 130) C (hlm.1 ▸ hr1) (hlm.2 ▸ hr2) dX9_list_130 (fun h_8 eh_8 => ?_)
    obtain ⟨a_9, ea_9⟩ : ∃ z : Nat, z = hZ h_7 := ⟨_, rfl⟩
    rw [← ea_9]
    replace hw := hw a_9 h_8 ea_9 eh_8
    refine gk_dup (pc := 133) C.1 dX9_list_133 rfl ?_
    refine gk_aload (pc := 134) C.1 0 dX9_list_134 rfl ?_
    refine gc_X9_127 (pc := 136) (As := [.ref a_6]) (rest := [.ref a_9]) C hCl (Nat.le_refl _) hw rfl rfl (Nat.le_of_ble_eq_true rfl) dX9_list_136 (fun v9 h_10 hp => ?_) (fun q_11 h_12 hw ht9 => ?_)
    rotate_left
    · exact gx_out C S0 (by rw [hTb]; decide) ht9 hw
    clear hw
    obtain ⟨rfl, hw⟩ := hp
    refine GK.at (p2 := 139) rfl ?_
    exact gh_aret (pc := 139) (r := (some a_9)) C S0 hret (Or.inl ⟨_, rfl⟩) dX9_list_139 hw
  · replace hw := hw.2 c_1
    refine gk_aload_n (pc := 29) C.1 0 dX9_list_29 rfl rfl ?_
    refine gk_iload_n (pc := 30) C.1 3 dX9_list_30 rfl rfl ?_
    refine gk_iconst (pc := 31) (v := 4) C.1 dX9_list_31 (by decide) ?_
    refine gk_icmp_lt (pc := 32) (tgt := 39) C.1 dX9_list_32 (by decide) (fun c_13 => ?_) (fun c_13 => ?_)
    · replace hw := hw.1 c_13
      refine gk_iconst (pc := 39) (v := 0) C.1 dX9_list_39 (by decide) ?_
      refine GK.sub (lv' := [(0, .ref x0), (1, .int x1), (2, .ref x2), (3, .int x3)]) [0, 1, 2, 3] rfl ?_
      exact wk_X9_list_40 C hC9 S0 hret hXn hini hTb ih _ _ _ _ _ _ _ hw
    · replace hw := hw.2 c_13
      refine gk_iconst (pc := 35) (v := 1) C.1 dX9_list_35 (by decide) ?_
      refine gk_goto (pc := 36) (tgt := 40) C.1 dX9_list_36 (by decide) ?_
      refine GK.sub (lv' := [(0, .ref x0), (1, .int x1), (2, .ref x2), (3, .int x3)]) [0, 1, 2, 3] rfl ?_
      exact wk_X9_list_40 C hC9 S0 hret hXn hini hTb ih _ _ _ _ _ _ _ hw
def wb_X9_list_22 (cl : CT) (lm : Nat × Nat) (Q : QT) (E : ET) (x0 : Nat) (x1 : Int32) (x2 : Nat) (x3 : Int32) (s0 : Int32) (h : HS) : Prop := ∃ fu : Nat, wb_X9_list_24 cl lm Q E fu x0 x1 x2 x3 s0 h
theorem wk_X9_list_22 {X : Ev} {G : GG} {cl : CT} {lm : Nat × Nat} {Q : QT} {E : ET} {h0 : HS} {d2 : Nat} (C : HC X G RX9 cX9_list (d2 + 1)) (hCl : CallsOK (ev_l X) G d2 cl ∧ hLm G lm ∧ 8 ≤ d2 ∧ LamsOK (ev_l X) G d2 cl) (S0 : HS0 X h0) (hret : (ev_h X).sig.returnType = (Option.some (Jvm.ClassFile.FieldType.object "GathersAllFaults$Value"))) (hXn : ev_n X = 6) (hini : True) (hTb : (ev_c X).exceptionTable.toList = []) : ∀ (x0 : Nat) (x1 : Int32) (x2 : Nat) (x3 : Int32) (s0 : Int32) (h : HS), wb_X9_list_22 cl lm Q E x0 x1 x2 x3 s0 h → GH X G h (hQ X G h0 Q E) 22 [(0, .ref x0), (1, .int x1), (2, .ref x2), (3, .int x3)] [.int s0] := by
  have hlm := hCl.2.1
  have hd8 := hCl.2.2.1
  have hd2 : 1 ≤ d2 := Nat.le_trans (by decide) hd8
  have hLa := hCl.2.2.2
  have hd1 : 1 ≤ d2 + 1 := Nat.le_add_left _ _
  have hC9 := hCl
  replace hCl := hCl.1
  intro x0 x1 x2 x3 s0 h hw
  unfold wb_X9_list_22 at hw
  refine gk_istore (pc := 22) (lv' := [(4, Value.int s0), (0, Value.ref x0), (1, Value.int x1), (2, Value.ref x2), (3, Value.int x3)]) C.1 dX9_list_22 (by rw [hXn]; decide) (by first | rfl | simp [va_rf_S, va_rf_cat, cat_i, cat_a, cat_l, cat_f, fin4_0, fin4_1, fin4_2, fin4_3]) ?_
  refine GK.sub (lv' := [(0, .ref x0), (1, .int x1), (2, .ref x2), (3, .int x3), (4, .int s0)]) [1, 2, 3, 4, 0] rfl ?_
  obtain ⟨n9, hw⟩ := hw
  exact wk_X9_list_24 C hC9 S0 hret hXn hini hTb  n9 _ _ _ _ _ _ hw
def wb_X9_list (cl : CT) (lm : Nat × Nat) (Q : QT) (E : ET) (x0 : Nat) (x1 : Int32) (h : HS) : Prop := ¬ (96 : Int32) < 0 ∧ ((96 : Int32).toNatClampNeg * 4 ≤ 536870912 ∧ (hZ h + 1 ≤ lm.1 ∧ (hL h + (96 : Int32).toNatClampNeg ≤ lm.2 ∧ (∀ (a_2 : Nat) (h_1 : HS), a_2 = hZ h → h_1 = hNew h 114 (96 : Int32).toNatClampNeg (96 : Int32).toNatClampNeg → (dp_Reader_here cl x0 [] h_1 (gI (fun r_4 h_3 => ((r_4 = 93 → (wb_X9_list_22 cl lm Q E x0 x1 a_2 0 0 h_3)) ∧ (¬ r_4 = 93 → (wb_X9_list_22 cl lm Q E x0 x1 a_2 0 1 h_3))))) E)))))
theorem wx_X9_list {l : Launch} (hst : l.stackTraces = false) {G : GG} {cl : CT} {lm : Nat × Nat} {Q : QT} {E : ET} {d2 : Nat} (hCl : CallsOK l G d2 cl ∧ hLm G lm ∧ 8 ≤ d2 ∧ LamsOK l G d2 cl) {x0 : Nat} {x1 : Int32} {h : HS} (hw : wb_X9_list cl lm Q E x0 x1 h) : HMet l G yX9_list (ws_ yX9_list cX9_list 6 ((Option.some (Jvm.ClassFile.FieldType.object "GathersAllFaults$Value")))) (d2 + 1) [.ref x0, .int x1] h Q E := by
  refine gh_met (own := RX9) rfl (by decide +kernel) hst (by simp only [lg_sl_i, lg_sl_r, lg_sl_a, lg_sl_2, lg_sl_f, lg_sl_0]; decide) (fun X hXl hXn hret hnm hTb h0 eh C S0 => ?_)
  subst hXl
  have hlm := hCl.2.1
  have hd8 := hCl.2.2.1
  have hd2 : 1 ≤ d2 := Nat.le_trans (by decide) hd8
  have hLa := hCl.2.2.2
  have hd1 : 1 ≤ d2 + 1 := Nat.le_add_left _ _
  have hC9 := hCl
  replace hCl := hCl.1
  have hini : True := trivial
  unfold wb_X9_list at hw
  refine GK.sub (lv' := [(0, .ref x0), (1, .int x1)]) [0, 1] (by simp only [lv_args_i, lv_args_r, lv_args_a, lv_args_l, lv_args_f, lv_args_0]; rfl) ?_
  refine gk_bipush (pc := 0) (v := 96) C.1 dX9_list_0 (by decide) ?_
  obtain ⟨hn0, hby, hr1, hr2, hw⟩ := hw
  refine gh_anew (pc := 2) (t := 114) (t0 := 6) (E := "GathersAllFaults$Value") C ⟨by decide, by decide⟩ rfl q1204 q263 hn0 hby (hlm.1 ▸ hr1) (hlm.2 ▸ hr2) dX9_list_2 ?_
  obtain ⟨h_1, eh_1⟩ : ∃ z : HS, z = hNew h 114 (96 : Int32).toNatClampNeg (96 : Int32).toNatClampNeg := ⟨_, rfl⟩
  rw [← eh_1]
  obtain ⟨a_2, ea_2⟩ : ∃ z : Nat, z = hZ h := ⟨_, rfl⟩
  rw [← ea_2]
  replace hw := hw a_2 h_1 ea_2 eh_1
  refine gk_astore_n (pc := 5) (lv' := [(2, Value.ref a_2), (0, Value.ref x0), (1, Value.int x1)]) C.1 dX9_list_5 rfl (by rw [hXn]; decide) (by first | rfl | simp [va_rf_S, va_rf_cat, cat_i, cat_a, cat_l, cat_f, fin4_0, fin4_1, fin4_2, fin4_3]) ?_
  refine gk_iconst (pc := 6) (v := 0) C.1 dX9_list_6 (by decide) ?_
  refine gk_istore_n (pc := 7) (lv' := [(3, Value.int 0), (2, Value.ref a_2), (0, Value.ref x0), (1, Value.int x1)]) C.1 dX9_list_7 rfl (by rw [hXn]; decide) (by first | rfl | simp [va_rf_S, va_rf_cat, cat_i, cat_a, cat_l, cat_f, fin4_0, fin4_1, fin4_2, fin4_3]) ?_
  refine gk_aload_n (pc := 8) C.1 2 dX9_list_8 rfl rfl ?_
  refine gc_X9_38 (pc := 9) (As := []) (rest := []) C hCl (Nat.le_refl _) hw rfl rfl (Nat.le_of_ble_eq_true rfl) dX9_list_9 (fun v9 h_3 hp => ?_) (fun q_5 h_6 hw ht9 => ?_)
  rotate_left
  · exact gx_out C S0 (by rw [hTb]; decide) ht9 hw
  clear hw
  obtain ⟨r_4, rfl, hw⟩ := hp
  refine GK.at (p2 := 12) rfl ?_
  refine gk_bipush (pc := 12) (v := 93) C.1 dX9_list_12 (by decide) ?_
  refine gk_icmp_eq (pc := 14) (tgt := 21) C.1 dX9_list_14 (by decide) (fun c_7 => ?_) (fun c_7 => ?_)
  · replace hw := hw.1 c_7
    refine gk_iconst (pc := 21) (v := 0) C.1 dX9_list_21 (by decide) ?_
    refine GK.sub (lv' := [(0, .ref x0), (1, .int x1), (2, .ref a_2), (3, .int 0)]) [2, 3, 1, 0] rfl ?_
    exact wk_X9_list_22 C hC9 S0 hret hXn hini hTb  _ _ _ _ _ _ hw
  · replace hw := hw.2 c_7
    refine gk_iconst (pc := 17) (v := 1) C.1 dX9_list_17 (by decide) ?_
    refine gk_goto (pc := 18) (tgt := 22) C.1 dX9_list_18 (by decide) ?_
    refine GK.sub (lv' := [(0, .ref x0), (1, .int x1), (2, .ref a_2), (3, .int 0)]) [2, 3, 1, 0] rfl ?_
    exact wk_X9_list_22 C hC9 S0 hret hXn hini hTb  _ _ _ _ _ _ hw
/-! 190: GathersAllFaults$Reader.mustStand(Z)V -/
def wb_X9_mustStand (cl : CT) (lm : Nat × Nat) (Q : QT) (E : ET) (x0 : Nat) (x1 : Int32) (h : HS) : Prop := ((¬ x1 = 0 → (Q none h)) ∧ (x1 = 0 → (hZ h + 1 ≤ lm.1 ∧ (hL h + 7 ≤ lm.2 ∧ (∀ (a_3 : Nat) (h_2 : HS), a_3 = hZ h → h_2 = hNew h 17 0 7 → ((hT h_2 x0 = 15) ∧ (cl 199 (.ref a_3 :: [.int ((-1000) - (hI h_2 49 x0))]) h_2 (gV (fun h_4 => (hT h_4 a_3 = 16 ∨ hT h_4 a_3 = 17) ∧ (E a_3 h_4))) E)))))))
theorem wx_X9_mustStand {l : Launch} (hst : l.stackTraces = false) {G : GG} {cl : CT} {lm : Nat × Nat} {Q : QT} {E : ET} {d2 : Nat} (hCl : CallsOK l G d2 cl ∧ hLm G lm ∧ 8 ≤ d2 ∧ LamsOK l G d2 cl) {x0 : Nat} {x1 : Int32} {h : HS} (hw : wb_X9_mustStand cl lm Q E x0 x1 h) : HMet l G yX9_mustStand (ws_ yX9_mustStand cX9_mustStand 2 ((Option.none : Option Jvm.ClassFile.FieldType))) (d2 + 1) [.ref x0, .int x1] h Q E := by
  refine gh_met (own := RX9) rfl (by decide +kernel) hst (by simp only [lg_sl_i, lg_sl_r, lg_sl_a, lg_sl_2, lg_sl_f, lg_sl_0]; decide) (fun X hXl hXn hret hnm hTb h0 eh C S0 => ?_)
  subst hXl
  have hlm := hCl.2.1
  have hd8 := hCl.2.2.1
  have hd2 : 1 ≤ d2 := Nat.le_trans (by decide) hd8
  have hLa := hCl.2.2.2
  have hd1 : 1 ≤ d2 + 1 := Nat.le_add_left _ _
  have hC9 := hCl
  replace hCl := hCl.1
  have hini : True := trivial
  unfold wb_X9_mustStand at hw
  refine GK.sub (lv' := [(0, .ref x0), (1, .int x1)]) [0, 1] (by simp only [lv_args_i, lv_args_r, lv_args_a, lv_args_l, lv_args_f, lv_args_0]; rfl) ?_
  refine gk_iload_n (pc := 0) C.1 1 dX9_mustStand_0 rfl rfl ?_
  refine gk_if_ne (pc := 1) (tgt := 20) C.1 dX9_mustStand_1 (by decide) (fun c_1 => ?_) (fun c_1 => ?_)
  · replace hw := hw.1 c_1
    exact gh_vret (pc := 20) C S0 hret dX9_mustStand_20 hw
  · replace hw := hw.2 c_1
    obtain ⟨hr1, hr2, hw⟩ := hw
    refine gn_X9_33 (pc := 4) C (hlm.1 ▸ hr1) (hlm.2 ▸ hr2) dX9_mustStand_4 (fun h_2 eh_2 => ?_)
    obtain ⟨a_3, ea_3⟩ : ∃ z : Nat, z = hZ h := ⟨_, rfl⟩
    rw [← ea_3]
    replace hw := hw a_3 h_2 ea_3 eh_2
    refine gk_dup (pc := 7) C.1 dX9_mustStand_7 rfl ?_
    refine gk_sipush (pc := 8) (v := (-1000)) C.1 dX9_mustStand_8 (by decide) ?_
    refine gk_aload_n (pc := 11) C.1 0 dX9_mustStand_11 rfl rfl ?_
    obtain ⟨ht, hw⟩ := hw
    refine gf_X9_26 (pc := 12) C ht dX9_mustStand_12 ?_
    refine gk_isub (pc := 15) C.1 dX9_mustStand_15 ?_
    refine gc_X9_35 (pc := 16) (As := [.int ((-1000) - (hI h_2 49 x0))]) (rest := [.ref a_3]) C hCl (Nat.le_refl _) hw rfl rfl (Nat.le_of_ble_eq_true rfl) dX9_mustStand_16 (fun v9 h_4 hp => ?_) (fun q_5 h_6 hw ht9 => ?_)
    rotate_left
    · exact gx_out C S0 (by rw [hTb]; decide) ht9 hw
    clear hw
    obtain ⟨rfl, hw⟩ := hp
    refine GK.at (p2 := 19) rfl ?_
    refine gh_athrow (pc := 19) C dX9_mustStand_19 ?_
    obtain ⟨ht9, hw⟩ := hw
    exact gx_out C S0 (by rw [hTb]; decide) ht9 hw
/-! 191: GathersAllFaults$Reader.name()I -/
def wb_X9_name (cl : CT) (lm : Nat × Nat) (Q : QT) (E : ET) (x0 : Nat) (h : HS) : Prop := dp_Reader_here cl x0 [] h (gI (fun r_2 h_1 => cl 78 [.long ((r_2 : Int32).toInt64), .long 97, .long 101] h_1 (gI (fun r_6 h_5 => dp_Reader_mustStand cl x0 [.int r_6] h_5 (gV (fun h_9 => (hT h_9 x0 = 15) ∧ ((hT h_9 x0 = 15) ∧ (∀ h_12 : HS, h_12 = sI h_9 49 x0 ((hI h_9 49 x0) + 1) → ((hT h_12 x0 = 15) ∧ (∀ r_13 : Option Nat, r_13 = hR h_12 54 x0 → (∃ a_14 : Nat, r_13 = some a_14 ∧ ((hT h_12 a_14 = 1) ∧ (∀ r_15 : Option Nat, r_15 = hR h_12 7 a_14 → ((hT h_12 x0 = 15) ∧ (∃ a_16 : Nat, r_15 = some a_16 ∧ (hT h_12 a_16 = 103 ∧ (vp_in ((hI h_12 49 x0) - 1) (hN h_12 a_16) ∧ (Q (some (.int (((hA h_12 a_16 ((hI h_12 49 x0) - 1).toNatClampNeg) - 97) + 1))) h_12)))))))))))))) E)) E)) E
theorem wx_X9_name {l : Launch} (hst : l.stackTraces = false) {G : GG} {cl : CT} {lm : Nat × Nat} {Q : QT} {E : ET} {d2 : Nat} (hCl : CallsOK l G d2 cl ∧ hLm G lm ∧ 8 ≤ d2 ∧ LamsOK l G d2 cl) {x0 : Nat} {h : HS} (hw : wb_X9_name cl lm Q E x0 h) : HMet l G yX9_name (ws_ yX9_name cX9_name 1 ((Option.some Jvm.ClassFile.FieldType.int))) (d2 + 1) [.ref x0] h Q E := by
  refine gh_met (own := RX9) rfl (by decide +kernel) hst (by simp only [lg_sl_i, lg_sl_r, lg_sl_a, lg_sl_2, lg_sl_f, lg_sl_0]; decide) (fun X hXl hXn hret hnm hTb h0 eh C S0 => ?_)
  subst hXl
  have hlm := hCl.2.1
  have hd8 := hCl.2.2.1
  have hd2 : 1 ≤ d2 := Nat.le_trans (by decide) hd8
  have hLa := hCl.2.2.2
  have hd1 : 1 ≤ d2 + 1 := Nat.le_add_left _ _
  have hC9 := hCl
  replace hCl := hCl.1
  have hini : True := trivial
  unfold wb_X9_name at hw
  refine GK.sub (lv' := [(0, .ref x0)]) [0] (by simp only [lv_args_i, lv_args_r, lv_args_a, lv_args_l, lv_args_f, lv_args_0]; rfl) ?_
  refine gk_aload_n (pc := 0) C.1 0 dX9_name_0 rfl rfl ?_
  refine gk_aload_n (pc := 1) C.1 0 dX9_name_1 rfl rfl ?_
  refine gc_X9_38 (pc := 2) (As := []) (rest := [.ref x0]) C hCl (Nat.le_refl _) hw rfl rfl (Nat.le_of_ble_eq_true rfl) dX9_name_2 (fun v9 h_1 hp => ?_) (fun q_3 h_4 hw ht9 => ?_)
  rotate_left
  · exact gx_out C S0 (by rw [hTb]; decide) ht9 hw
  clear hw
  obtain ⟨r_2, rfl, hw⟩ := hp
  refine GK.at (p2 := 5) rfl ?_
  refine gk_i2l (pc := 5) C.1 dX9_name_5 ?_
  refine gk_ldc2 (pc := 6) (v := 97) C.1 q565 dX9_name_6 ?_
  refine gk_ldc2 (pc := 9) (v := 101) C.1 q566 dX9_name_9 ?_
  refine gc_X9_50 (pc := 12) (As := [.long ((r_2 : Int32).toInt64), .long 97, .long 101]) (rest := [.ref x0]) C hCl (Nat.le_refl _) hw rfl rfl (Nat.le_of_ble_eq_true rfl) dX9_name_12 (fun v9 h_5 hp => ?_) (fun q_7 h_8 hw ht9 => ?_)
  rotate_left
  · exact gx_out C S0 (by rw [hTb]; decide) ht9 hw
  clear hw
  obtain ⟨r_6, rfl, hw⟩ := hp
  refine GK.at (p2 := 15) rfl ?_
  refine gc_X9_42 (pc := 15) (As := [.int r_6]) (rest := []) C hCl (Nat.le_refl _) hw rfl rfl (Nat.le_of_ble_eq_true rfl) dX9_name_15 (fun v9 h_9 hp => ?_) (fun q_10 h_11 hw ht9 => ?_)
  rotate_left
  · exact gx_out C S0 (by rw [hTb]; decide) ht9 hw
  clear hw
  obtain ⟨rfl, hw⟩ := hp
  refine GK.at (p2 := 18) rfl ?_
  refine gk_aload_n (pc := 18) C.1 0 dX9_name_18 rfl rfl ?_
  refine gk_dup (pc := 19) C.1 dX9_name_19 rfl ?_
  obtain ⟨ht, hw⟩ := hw
  refine gf_X9_26 (pc := 20) C ht dX9_name_20 ?_
  refine gk_iconst (pc := 23) (v := 1) C.1 dX9_name_23 (by decide) ?_
  refine gk_iadd (pc := 24) C.1 dX9_name_24 ?_
  obtain ⟨ht, hw⟩ := hw
  refine gfp_X9_26 (pc := 25) C ht dX9_name_25 (fun h_12 eh_12 => ?_)
  replace hw := hw h_12 eh_12
  refine gk_aload_n (pc := 28) C.1 0 dX9_name_28 rfl rfl ?_
  obtain ⟨ht, hw⟩ := hw
  refine gf_X9_3 (pc := 29) C ht dX9_name_29 (fun r_13 er_13 => ?_)
  replace hw := hw r_13 er_13
  obtain ⟨a_14, rfl, hw⟩ := hw
  obtain ⟨ht, hw⟩ := hw
  refine gf_X9_29 (pc := 32) C ht dX9_name_32 (fun r_15 er_15 => ?_)
  replace hw := hw r_15 er_15
  refine gk_aload_n (pc := 35) C.1 0 dX9_name_35 rfl rfl ?_
  obtain ⟨ht, hw⟩ := hw
  refine gf_X9_26 (pc := 36) C ht dX9_name_36 ?_
  refine gk_iconst (pc := 39) (v := 1) C.1 dX9_name_39 (by decide) ?_
  refine gk_isub (pc := 40) C.1 dX9_name_40 ?_
  obtain ⟨a_16, rfl, hw⟩ := hw
  obtain ⟨ht, hi, hw⟩ := hw
  refine gh_cald (pc := 41) C ht hi dX9_name_41 ?_
  refine gk_bipush (pc := 42) (v := 97) C.1 dX9_name_42 (by decide) ?_
  refine gk_isub (pc := 44) C.1 dX9_name_44 ?_
  refine gk_iconst (pc := 45) (v := 1) C.1 dX9_name_45 (by decide) ?_
  refine gk_iadd (pc := 46) C.1 dX9_name_46 ?_
  exact gh_iret (pc := 47) C S0 hret dX9_name_47 hw
/-! 192: GathersAllFaults$Reader.pair()I -/
def wb_X9_pair (cl : CT) (lm : Nat × Nat) (Q : QT) (E : ET) (x0 : Nat) (h : HS) : Prop := dp_Reader_digit cl x0 [] h (gI (fun r_2 h_1 => dp_Reader_digit cl x0 [] h_1 (gI (fun r_6 h_5 => Q (some (.int ((10 * r_2) + r_6))) h_5)) E)) E
theorem wx_X9_pair {l : Launch} (hst : l.stackTraces = false) {G : GG} {cl : CT} {lm : Nat × Nat} {Q : QT} {E : ET} {d2 : Nat} (hCl : CallsOK l G d2 cl ∧ hLm G lm ∧ 8 ≤ d2 ∧ LamsOK l G d2 cl) {x0 : Nat} {h : HS} (hw : wb_X9_pair cl lm Q E x0 h) : HMet l G yX9_pair (ws_ yX9_pair cX9_pair 2 ((Option.some Jvm.ClassFile.FieldType.int))) (d2 + 1) [.ref x0] h Q E := by
  refine gh_met (own := RX9) rfl (by decide +kernel) hst (by simp only [lg_sl_i, lg_sl_r, lg_sl_a, lg_sl_2, lg_sl_f, lg_sl_0]; decide) (fun X hXl hXn hret hnm hTb h0 eh C S0 => ?_)
  subst hXl
  have hlm := hCl.2.1
  have hd8 := hCl.2.2.1
  have hd2 : 1 ≤ d2 := Nat.le_trans (by decide) hd8
  have hLa := hCl.2.2.2
  have hd1 : 1 ≤ d2 + 1 := Nat.le_add_left _ _
  have hC9 := hCl
  replace hCl := hCl.1
  have hini : True := trivial
  unfold wb_X9_pair at hw
  refine GK.sub (lv' := [(0, .ref x0)]) [0] (by simp only [lv_args_i, lv_args_r, lv_args_a, lv_args_l, lv_args_f, lv_args_0]; rfl) ?_
  refine gk_aload_n (pc := 0) C.1 0 dX9_pair_0 rfl rfl ?_
  refine gc_X9_67 (pc := 1) (As := []) (rest := []) C hCl (Nat.le_refl _) hw rfl rfl (Nat.le_of_ble_eq_true rfl) dX9_pair_1 (fun v9 h_1 hp => ?_) (fun q_3 h_4 hw ht9 => ?_)
  rotate_left
  · exact gx_out C S0 (by rw [hTb]; decide) ht9 hw
  clear hw
  obtain ⟨r_2, rfl, hw⟩ := hp
  refine GK.at (p2 := 4) rfl ?_
  refine gk_istore_n (pc := 4) (lv' := [(1, Value.int r_2), (0, Value.ref x0)]) C.1 dX9_pair_4 rfl (by rw [hXn]; decide) (by first | rfl | simp [va_rf_S, va_rf_cat, cat_i, cat_a, cat_l, cat_f, fin4_0, fin4_1, fin4_2, fin4_3]) ?_
  refine gk_bipush (pc := 5) (v := 10) C.1 dX9_pair_5 (by decide) ?_
  refine gk_iload_n (pc := 7) C.1 0 dX9_pair_7 rfl rfl ?_
  refine gk_imul (pc := 8) C.1 dX9_pair_8 ?_
  refine gk_aload_n (pc := 9) C.1 1 dX9_pair_9 rfl rfl ?_
  refine gc_X9_67 (pc := 10) (As := []) (rest := [.int (10 * r_2)]) C hCl (Nat.le_refl _) hw rfl rfl (Nat.le_of_ble_eq_true rfl) dX9_pair_10 (fun v9 h_5 hp => ?_) (fun q_7 h_8 hw ht9 => ?_)
  rotate_left
  · exact gx_out C S0 (by rw [hTb]; decide) ht9 hw
  clear hw
  obtain ⟨r_6, rfl, hw⟩ := hp
  refine GK.at (p2 := 13) rfl ?_
  refine gk_iadd (pc := 13) C.1 dX9_pair_13 ?_
  exact gh_iret (pc := 14) C S0 hret dX9_pair_14 hw
/-! 193: GathersAllFaults$Reader.rec(I)LGathersAllFaults$Value; -/
def wb_X9_rec_8 (cl : CT) (lm : Nat × Nat) (Q : QT) (E : ET) : Nat → Nat → Int32 → Nat → HS → Prop
  | 0 => fun _ _ _ _ => False
  | n + 1 => fun x0 x1 x2 h => dp_Reader_here cl x0 [] h (gI (fun r_2 h_1 => ((r_2 = 41 → ((hT h_1 x0 = 15) ∧ ((hT h_1 x0 = 15) ∧ (∀ h_6 : HS, h_6 = sI h_1 49 x0 ((hI h_1 49 x0) + 1) → (hZ h_6 + 1 ≤ lm.1 ∧ (hL h_6 + 2 ≤ lm.2 ∧ (∀ (a_8 : Nat) (h_7 : HS), a_8 = hZ h_6 → h_7 = hNew h_6 4 0 2 → (cl 203 (.ref a_8 :: [.ref x2]) h_7 (gV (fun h_9 => Q (some (va_rf (some a_8))) h_9)) E)))))))) ∧ (¬ r_2 = 41 → ((hT h_1 x0 = 15) ∧ (∀ x_12 : Int32, x_12 = hI h_1 49 x0 → (dp_Reader_name cl x0 [] h_1 (gI (fun r_14 h_13 => ¬ r_14 < (-128) ∧ (¬ 127 < r_14 ∧ (∀ a_17 : Nat, hT h_13 a_17 = 300 → hI h_13 fINT a_17 = r_14 → (dp_LinkedHashMap_containsKey cl x2 [.ref a_17] h_13 (gI (fun r_19 h_18 => dp_Reader_wrong cl x0 [.int r_19, .int x_12] h_18 (gV (fun h_22 => ¬ r_14 < (-128) ∧ (¬ 127 < r_14 ∧ (∀ a_25 : Nat, hT h_22 a_25 = 300 → hI h_22 fINT a_25 = r_14 → (dp_Reader_under cl x0 [.int x1, .int r_14] h_22 (gI (fun r_27 h_26 => dp_Reader_value cl x0 [.int r_27] h_26 (gR (fun r_31 h_30 => dp_LinkedHashMap_put cl x2 [.ref a_25, va_rf r_31] h_30 (gR (fun r_35 h_34 => wb_X9_rec_8 cl lm Q E n x0 x1 x2 h_34)) E)) E)) E))))) E)) E))))) E))))))) E
theorem wk_X9_rec_8 {X : Ev} {G : GG} {cl : CT} {lm : Nat × Nat} {Q : QT} {E : ET} {h0 : HS} {d2 : Nat} (C : HC X G RX9 cX9_rec (d2 + 1)) (hCl : CallsOK (ev_l X) G d2 cl ∧ hLm G lm ∧ 8 ≤ d2 ∧ LamsOK (ev_l X) G d2 cl) (S0 : HS0 X h0) (hret : (ev_h X).sig.returnType = (Option.some (Jvm.ClassFile.FieldType.object "GathersAllFaults$Value"))) (hXn : ev_n X = 5) (hini : True) (hTb : (ev_c X).exceptionTable.toList = []) : ∀ (n : Nat) (x0 : Nat) (x1 : Int32) (x2 : Nat) (h : HS), wb_X9_rec_8 cl lm Q E n x0 x1 x2 h → GH X G h (hQ X G h0 Q E) 8 [(0, .ref x0), (1, .int x1), (2, .ref x2)] [] := by
  have hlm := hCl.2.1
  have hd8 := hCl.2.2.1
  have hd2 : 1 ≤ d2 := Nat.le_trans (by decide) hd8
  have hLa := hCl.2.2.2
  have hd1 : 1 ≤ d2 + 1 := Nat.le_add_left _ _
  have hC9 := hCl
  replace hCl := hCl.1
  intro n
  induction n with
  | zero => intro x0 x1 x2 h hw; exact hw.elim
  | succ n ih =>
  intro x0 x1 x2 h hw
  unfold wb_X9_rec_8 at hw
  refine gk_aload_n (pc := 8) C.1 0 dX9_rec_8 rfl rfl ?_
  refine gc_X9_38 (pc := 9) (As := []) (rest := []) C hCl (Nat.le_refl _) hw rfl rfl (Nat.le_of_ble_eq_true rfl) dX9_rec_9 (fun v9 h_1 hp => ?_) (fun q_3 h_4 hw ht9 => ?_)
  rotate_left
  · exact gx_out C S0 (by rw [hTb]; decide) ht9 hw
  clear hw
  obtain ⟨r_2, rfl, hw⟩ := hp
  refine GK.at (p2 := 12) rfl ?_
  refine gk_bipush (pc := 12) (v := 41) C.1 dX9_rec_12 (by decide) ?_
  refine gk_icmp_eq (pc := 14) (tgt := 66) C.1 dX9_rec_14 (by decide) (fun c_5 => ?_) (fun c_5 => ?_)
  · replace hw := hw.1 c_5
    refine gk_aload_n (pc := 66) C.1 0 dX9_rec_66 rfl rfl ?_
    refine gk_dup (pc := 67) C.1 dX9_rec_67 rfl ?_
    obtain ⟨ht, hw⟩ := hw
    refine gf_X9_26 (pc := 68) C ht dX9_rec_68 ?_
    refine gk_iconst (pc := 71) (v := 1) C.1 dX9_rec_71 (by decide) ?_
    refine gk_iadd (pc := 72) C.1 dX9_rec_72 ?_
    obtain ⟨ht, hw⟩ := hw
    refine gfp_X9_26 (pc := 73) C ht dX9_rec_73 (fun h_6 eh_6 => ?_)
    replace hw := hw h_6 eh_6
    obtain ⟨hr1, hr2, hw⟩ := hw
    refine gn_X9_109 (pc := 76) C (hlm.1 ▸ hr1) (hlm.2 ▸ hr2) dX9_rec_76 (fun h_7 eh_7 => ?_)
    obtain ⟨a_8, ea_8⟩ : ∃ z : Nat, z = hZ h_6 := ⟨_, rfl⟩
    rw [← ea_8]
    replace hw := hw a_8 h_7 ea_8 eh_7
    refine gk_dup (pc := 79) C.1 dX9_rec_79 rfl ?_
    refine gk_aload_n (pc := 80) C.1 2 dX9_rec_80 rfl rfl ?_
    refine gc_X9_111 (pc := 81) (As := [.ref x2]) (rest := [.ref a_8]) C hCl (Nat.le_refl _) hw rfl rfl (Nat.le_of_ble_eq_true rfl) dX9_rec_81 (fun v9 h_9 hp => ?_) (fun q_10 h_11 hw ht9 => ?_)
    rotate_left
    · exact gx_out C S0 (by rw [hTb]; decide) ht9 hw
    clear hw
    obtain ⟨rfl, hw⟩ := hp
    refine GK.at (p2 := 84) rfl ?_
    exact gh_aret (pc := 84) (r := (some a_8)) C S0 hret (Or.inl ⟨_, rfl⟩) dX9_rec_84 hw
  · replace hw := hw.2 c_5
    refine gk_aload_n (pc := 17) C.1 0 dX9_rec_17 rfl rfl ?_
    obtain ⟨ht, hw⟩ := hw
    refine gf_X9_26 (pc := 18) C ht dX9_rec_18 ?_
    obtain ⟨x_12, ex_12⟩ : ∃ z : Int32, z = hI h_1 49 x0 := ⟨_, rfl⟩
    rw [← ex_12]
    replace hw := hw x_12 ex_12
    refine gk_istore_n (pc := 21) (lv' := [(3, Value.int x_12), (0, Value.ref x0), (1, Value.int x1), (2, Value.ref x2)]) C.1 dX9_rec_21 rfl (by rw [hXn]; decide) (by first | rfl | simp [va_rf_S, va_rf_cat, cat_i, cat_a, cat_l, cat_f, fin4_0, fin4_1, fin4_2, fin4_3]) ?_
    refine gk_aload_n (pc := 22) C.1 1 dX9_rec_22 rfl rfl ?_
    refine gc_X9_86 (pc := 23) (As := []) (rest := []) C hCl (Nat.le_refl _) hw rfl rfl (Nat.le_of_ble_eq_true rfl) dX9_rec_23 (fun v9 h_13 hp => ?_) (fun q_15 h_16 hw ht9 => ?_)
    rotate_left
    · exact gx_out C S0 (by rw [hTb]; decide) ht9 hw
    clear hw
    obtain ⟨r_14, rfl, hw⟩ := hp
    refine GK.at (p2 := 26) rfl ?_
    refine gk_istore (pc := 26) (lv' := [(4, Value.int r_14), (3, Value.int x_12), (0, Value.ref x0), (1, Value.int x1), (2, Value.ref x2)]) C.1 dX9_rec_26 (by rw [hXn]; decide) (by first | rfl | simp [va_rf_S, va_rf_cat, cat_i, cat_a, cat_l, cat_f, fin4_0, fin4_1, fin4_2, fin4_3]) ?_
    refine gk_aload_n (pc := 28) C.1 2 dX9_rec_28 rfl rfl ?_
    refine gk_aload_n (pc := 29) C.1 4 dX9_rec_29 rfl rfl ?_
    refine gk_iload (pc := 30) C.1 0 dX9_rec_30 rfl ?_
    obtain ⟨z1, z2, hw⟩ := hw
    refine gv_X9_89 (pc := 32) (rest := [.ref x2, .ref x0]) C hd2 z1 z2 (Nat.le_of_ble_eq_true rfl) dX9_rec_32 (fun a_17 z3 z4 => ?_)
    replace hw := hw a_17 z3 z4
    refine gc_X9_95 (pc := 35) (As := [.ref a_17]) (rest := [.ref x0]) C hCl (Nat.le_refl _) hw rfl rfl (Nat.le_of_ble_eq_true rfl) dX9_rec_35 (fun v9 h_18 hp => ?_) (fun q_20 h_21 hw ht9 => ?_)
    rotate_left
    · exact gx_out C S0 (by rw [hTb]; decide) ht9 hw
    clear hw
    obtain ⟨r_19, rfl, hw⟩ := hp
    refine GK.at (p2 := 38) rfl ?_
    refine gk_iload_n (pc := 38) C.1 1 dX9_rec_38 rfl rfl ?_
    refine gc_X9_63 (pc := 39) (As := [.int r_19, .int x_12]) (rest := []) C hCl (Nat.le_refl _) hw rfl rfl (Nat.le_of_ble_eq_true rfl) dX9_rec_39 (fun v9 h_22 hp => ?_) (fun q_23 h_24 hw ht9 => ?_)
    rotate_left
    · exact gx_out C S0 (by rw [hTb]; decide) ht9 hw
    clear hw
    obtain ⟨rfl, hw⟩ := hp
    refine GK.at (p2 := 42) rfl ?_
    refine gk_aload_n (pc := 42) C.1 4 dX9_rec_42 rfl rfl ?_
    refine gk_iload (pc := 43) C.1 0 dX9_rec_43 rfl ?_
    obtain ⟨z1, z2, hw⟩ := hw
    refine gv_X9_89 (pc := 45) (rest := [.ref x2]) C hd2 z1 z2 (Nat.le_of_ble_eq_true rfl) dX9_rec_45 (fun a_25 z3 z4 => ?_)
    replace hw := hw a_25 z3 z4
    refine gk_aload_n (pc := 48) C.1 2 dX9_rec_48 rfl rfl ?_
    refine gk_aload_n (pc := 49) C.1 2 dX9_rec_49 rfl rfl ?_
    refine gk_iload_n (pc := 50) C.1 3 dX9_rec_50 rfl rfl ?_
    refine gk_iload (pc := 51) C.1 0 dX9_rec_51 rfl ?_
    refine gc_X9_99 (pc := 53) (As := [.int x1, .int r_14]) (rest := [.ref x0, .ref a_25, .ref x2]) C hCl (Nat.le_refl _) hw rfl rfl (Nat.le_of_ble_eq_true rfl) dX9_rec_53 (fun v9 h_26 hp => ?_) (fun q_28 h_29 hw ht9 => ?_)
    rotate_left
    · exact gx_out C S0 (by rw [hTb]; decide) ht9 hw
    clear hw
    obtain ⟨r_27, rfl, hw⟩ := hp
    refine GK.at (p2 := 56) rfl ?_
    refine gc_X9_102 (pc := 56) (As := [.int r_27]) (rest := [.ref a_25, .ref x2]) C hCl (Nat.le_refl _) hw rfl rfl (Nat.le_of_ble_eq_true rfl) dX9_rec_56 (fun v9 h_30 hp => ?_) (fun q_32 h_33 hw ht9 => ?_)
    rotate_left
    · exact gx_out C S0 (by rw [hTb]; decide) ht9 hw
    clear hw
    obtain ⟨r_31, rfl, hw⟩ := hp
    refine GK.at (p2 := 59) rfl ?_
    refine gc_X9_105 (pc := 59) (As := [.ref a_25, va_rf r_31]) (rest := []) C hCl (Nat.le_refl _) hw rfl rfl (Nat.le_of_ble_eq_true rfl) dX9_rec_59 (fun v9 h_34 hp => ?_) (fun q_36 h_37 hw ht9 => ?_)
    rotate_left
    · exact gx_out C S0 (by rw [hTb]; decide) ht9 hw
    clear hw
    obtain ⟨r_35, rfl, hw⟩ := hp
    refine GK.at (p2 := 62) rfl ?_
    refine gk_pop (pc := 62) C.1 dX9_rec_62 (va_rf_cat _) ?_
    refine gk_goto (pc := 63) (tgt := 8) C.1 dX9_rec_63 (by decide) ?_
    refine GK.sub (lv' := [(0, .ref x0), (1, .int x1), (2, .ref x2)]) [2, 3, 4] rfl ?_
    exact ih _ _ _ _ hw
def wb_X9_rec (cl : CT) (lm : Nat × Nat) (Q : QT) (E : ET) (x0 : Nat) (x1 : Int32) (h : HS) : Prop := hZ h + 1 ≤ lm.1 ∧ (hL h + 12 ≤ lm.2 ∧ (∀ (a_2 : Nat) (h_1 : HS), a_2 = hZ h → h_1 = hNew h 20 0 12 → (cl 17 (.ref a_2 :: []) h_1 (gV (fun h_3 => ∃ fu : Nat, wb_X9_rec_8 cl lm Q E fu x0 x1 a_2 h_3)) E)))
theorem wx_X9_rec {l : Launch} (hst : l.stackTraces = false) {G : GG} {cl : CT} {lm : Nat × Nat} {Q : QT} {E : ET} {d2 : Nat} (hCl : CallsOK l G d2 cl ∧ hLm G lm ∧ 8 ≤ d2 ∧ LamsOK l G d2 cl) {x0 : Nat} {x1 : Int32} {h : HS} (hw : wb_X9_rec cl lm Q E x0 x1 h) : HMet l G yX9_rec (ws_ yX9_rec cX9_rec 5 ((Option.some (Jvm.ClassFile.FieldType.object "GathersAllFaults$Value")))) (d2 + 1) [.ref x0, .int x1] h Q E := by
  refine gh_met (own := RX9) rfl (by decide +kernel) hst (by simp only [lg_sl_i, lg_sl_r, lg_sl_a, lg_sl_2, lg_sl_f, lg_sl_0]; decide) (fun X hXl hXn hret hnm hTb h0 eh C S0 => ?_)
  subst hXl
  have hlm := hCl.2.1
  have hd8 := hCl.2.2.1
  have hd2 : 1 ≤ d2 := Nat.le_trans (by decide) hd8
  have hLa := hCl.2.2.2
  have hd1 : 1 ≤ d2 + 1 := Nat.le_add_left _ _
  have hC9 := hCl
  replace hCl := hCl.1
  have hini : True := trivial
  unfold wb_X9_rec at hw
  refine GK.sub (lv' := [(0, .ref x0), (1, .int x1)]) [0, 1] (by simp only [lv_args_i, lv_args_r, lv_args_a, lv_args_l, lv_args_f, lv_args_0]; rfl) ?_
  obtain ⟨hr1, hr2, hw⟩ := hw
  refine gn_X9_83 (pc := 0) C (hlm.1 ▸ hr1) (hlm.2 ▸ hr2) dX9_rec_0 (fun h_1 eh_1 => ?_)
  obtain ⟨a_2, ea_2⟩ : ∃ z : Nat, z = hZ h := ⟨_, rfl⟩
  rw [← ea_2]
  replace hw := hw a_2 h_1 ea_2 eh_1
  refine gk_dup (pc := 3) C.1 dX9_rec_3 rfl ?_
  refine gc_X9_85 (pc := 4) (As := []) (rest := [.ref a_2]) C hCl (Nat.le_refl _) hw rfl rfl (Nat.le_of_ble_eq_true rfl) dX9_rec_4 (fun v9 h_3 hp => ?_) (fun q_4 h_5 hw ht9 => ?_)
  rotate_left
  · exact gx_out C S0 (by rw [hTb]; decide) ht9 hw
  clear hw
  obtain ⟨rfl, hw⟩ := hp
  refine GK.at (p2 := 7) rfl ?_
  refine gk_astore_n (pc := 7) (lv' := [(2, Value.ref a_2), (0, Value.ref x0), (1, Value.int x1)]) C.1 dX9_rec_7 rfl (by rw [hXn]; decide) (by first | rfl | simp [va_rf_S, va_rf_cat, cat_i, cat_a, cat_l, cat_f, fin4_0, fin4_1, fin4_2, fin4_3]) ?_
  refine GK.sub (lv' := [(0, .ref x0), (1, .int x1), (2, .ref a_2)]) [1, 2, 0] rfl ?_
  obtain ⟨n9, hw⟩ := hw
  exact wk_X9_rec_8 C hC9 S0 hret hXn hini hTb  n9 _ _ _ _ hw
/-! 194: GathersAllFaults$Reader.record(LGathersAllFaults$Compiled;)LGathersAllFaults$Look; -/
def wb_X9_record_70 (cl : CT) (lm : Nat × Nat) (Q : QT) (E : ET) (J8 : Nat → Option Nat → Nat → HS → Prop) (x0 : Nat) (x1 : Option Nat) (x2 : Nat) (x3 : Int32) (x4 : Int32) (s0 : Nat) (s1 : Int32) (s2 : Int32) (h : HS) : Prop := (hT h s0 = 15) ∧ (∀ h_1 : HS, h_1 = sI h 49 s0 (s1 + s2) → (dp_Reader_name cl x0 [] h_1 (gI (fun r_3 h_2 => dp_Spec_isField cl x2 [.int r_3] h_2 (gI (fun r_7 h_6 => dp_Reader_wrong cl x0 [.int r_7, .int x3] h_6 (gV (fun h_10 => dp_Reader_check cl x0 [va_rf x1, .int 1] h_10 (gR (fun r_14 h_13 => dp_Spec_field cl x2 [.int r_3, .int x4, va_rf r_14] h_13 (gV (fun h_17 => J8 x0 x1 x2 h_17)) E)) E)) E)) E)) E))
theorem wk_X9_record_70 {X : Ev} {G : GG} {cl : CT} {lm : Nat × Nat} {Q : QT} {E : ET} {h0 : HS} {d2 : Nat} {J8 : Nat → Option Nat → Nat → HS → Prop} (C : HC X G RX9 cX9_record (d2 + 1)) (hCl : CallsOK (ev_l X) G d2 cl ∧ hLm G lm ∧ 8 ≤ d2 ∧ LamsOK (ev_l X) G d2 cl) (S0 : HS0 X h0) (hret : (ev_h X).sig.returnType = (Option.some (Jvm.ClassFile.FieldType.object "GathersAllFaults$Look"))) (hXn : ev_n X = 8) (hini : (ev_s X).methodNamed? yX9_record = some (ev_m X)) (hTb : (ev_c X).exceptionTable.toList = []) (hJ8 : ∀ (x0 : Nat) (x1 : Option Nat) (x2 : Nat) (h : HS), J8 x0 x1 x2 h → GH X G h (hQ X G h0 Q E) 8 [(0, .ref x0), (1, va_rf x1), (2, .ref x2)] []) : ∀ (x0 : Nat) (x1 : Option Nat) (x2 : Nat) (x3 : Int32) (x4 : Int32) (s0 : Nat) (s1 : Int32) (s2 : Int32) (h : HS), wb_X9_record_70 cl lm Q E J8 x0 x1 x2 x3 x4 s0 s1 s2 h → GH X G h (hQ X G h0 Q E) 70 [(0, .ref x0), (1, va_rf x1), (2, .ref x2), (3, .int x3), (4, .int x4)] [.int s2, .int s1, .ref s0] := by
  have hlm := hCl.2.1
  have hd8 := hCl.2.2.1
  have hd2 : 1 ≤ d2 := Nat.le_trans (by decide) hd8
  have hLa := hCl.2.2.2
  have hd1 : 1 ≤ d2 + 1 := Nat.le_add_left _ _
  have hC9 := hCl
  replace hCl := hCl.1
  intro x0 x1 x2 x3 x4 s0 s1 s2 h hw
  unfold wb_X9_record_70 at hw
  refine gk_iadd (pc := 70) C.1 dX9_record_70 ?_
  obtain ⟨ht, hw⟩ := hw
  refine gfp_X9_26 (pc := 71) C ht dX9_record_71 (fun h_1 eh_1 => ?_)
  replace hw := hw h_1 eh_1
  refine gk_aload_n (pc := 74) C.1 0 dX9_record_74 rfl rfl ?_
  refine gc_X9_86 (pc := 75) (As := []) (rest := []) C hCl (Nat.le_refl _) hw rfl rfl (Nat.le_of_ble_eq_true rfl) dX9_record_75 (fun v9 h_2 hp => ?_) (fun q_4 h_5 hw ht9 => ?_)
  rotate_left
  · exact gx_out C S0 (by rw [hTb]; decide) ht9 hw
  clear hw
  obtain ⟨r_3, rfl, hw⟩ := hp
  refine GK.at (p2 := 78) rfl ?_
  refine gk_istore (pc := 78) (lv' := [(5, Value.int r_3), (0, Value.ref x0), (1, va_rf x1), (2, Value.ref x2), (3, Value.int x3), (4, Value.int x4)]) C.1 dX9_record_78 (by rw [hXn]; decide) (by first | rfl | simp [va_rf_S, va_rf_cat, cat_i, cat_a, cat_l, cat_f, fin4_0, fin4_1, fin4_2, fin4_3]) ?_
  refine gk_aload_n (pc := 80) C.1 1 dX9_record_80 rfl rfl ?_
  refine gk_aload_n (pc := 81) C.1 3 dX9_record_81 rfl rfl ?_
  refine gk_iload (pc := 82) C.1 0 dX9_record_82 rfl ?_
  refine gc_X9_182 (pc := 84) (As := [.int r_3]) (rest := [.ref x0]) C hCl (Nat.le_refl _) hw rfl rfl (Nat.le_of_ble_eq_true rfl) dX9_record_84 (fun v9 h_6 hp => ?_) (fun q_8 h_9 hw ht9 => ?_)
  rotate_left
  · exact gx_out C S0 (by rw [hTb]; decide) ht9 hw
  clear hw
  obtain ⟨r_7, rfl, hw⟩ := hp
  refine GK.at (p2 := 87) rfl ?_
  refine gk_iload_n (pc := 87) C.1 4 dX9_record_87 rfl rfl ?_
  refine gc_X9_63 (pc := 88) (As := [.int r_7, .int x3]) (rest := []) C hCl (Nat.le_refl _) hw rfl rfl (Nat.le_of_ble_eq_true rfl) dX9_record_88 (fun v9 h_10 hp => ?_) (fun q_11 h_12 hw ht9 => ?_)
  rotate_left
  · exact gx_out C S0 (by rw [hTb]; decide) ht9 hw
  clear hw
  obtain ⟨rfl, hw⟩ := hp
  refine GK.at (p2 := 91) rfl ?_
  refine gk_aload_n (pc := 91) C.1 3 dX9_record_91 rfl rfl ?_
  refine gk_iload (pc := 92) C.1 0 dX9_record_92 rfl ?_
  refine gk_iload (pc := 94) C.1 5 dX9_record_94 rfl ?_
  refine gk_aload_n (pc := 96) C.1 1 dX9_record_96 rfl rfl ?_
  refine gk_qload_n (pc := 97) C.1 2 dX9_record_97 rfl rfl ?_
  refine gk_iconst (pc := 98) (v := 1) C.1 dX9_record_98 (by decide) ?_
  refine gc_X9_144 (pc := 99) (As := [va_rf x1, .int 1]) (rest := [.int x4, .int r_3, .ref x2]) C hCl (Nat.le_refl _) hw rfl rfl (Nat.le_of_ble_eq_true rfl) dX9_record_99 (fun v9 h_13 hp => ?_) (fun q_15 h_16 hw ht9 => ?_)
  rotate_left
  · exact gx_out C S0 (by rw [hTb]; decide) ht9 hw
  clear hw
  obtain ⟨r_14, rfl, hw⟩ := hp
  refine GK.at (p2 := 102) rfl ?_
  refine gc_X9_186 (pc := 102) (As := [.int r_3, .int x4, va_rf r_14]) (rest := []) C hCl (Nat.le_refl _) hw rfl rfl (Nat.le_of_ble_eq_true rfl) dX9_record_102 (fun v9 h_17 hp => ?_) (fun q_18 h_19 hw ht9 => ?_)
  rotate_left
  · exact gx_out C S0 (by rw [hTb]; decide) ht9 hw
  clear hw
  obtain ⟨rfl, hw⟩ := hp
  refine GK.at (p2 := 105) rfl ?_
  refine gk_goto (pc := 105) (tgt := 8) C.1 dX9_record_105 (by decide) ?_
  refine GK.sub (lv' := [(0, .ref x0), (1, va_rf x1), (2, .ref x2)]) [1, 2, 3] rfl ?_
  exact hJ8 _ _ _ _ hw
def wb_X9_record_53 (cl : CT) (lm : Nat × Nat) (Q : QT) (E : ET) (J8 : Nat → Option Nat → Nat → HS → Prop) (x0 : Nat) (x1 : Option Nat) (x2 : Nat) (x3 : Int32) (s0 : Int32) (h : HS) : Prop := (hT h x0 = 15) ∧ (((s0 = 0 → (wb_X9_record_70 cl lm Q E J8 x0 x1 x2 x3 s0 x0 (hI h 49 x0) 0 h)) ∧ (¬ s0 = 0 → (wb_X9_record_70 cl lm Q E J8 x0 x1 x2 x3 s0 x0 (hI h 49 x0) 1 h))))
theorem wk_X9_record_53 {X : Ev} {G : GG} {cl : CT} {lm : Nat × Nat} {Q : QT} {E : ET} {h0 : HS} {d2 : Nat} {J8 : Nat → Option Nat → Nat → HS → Prop} (C : HC X G RX9 cX9_record (d2 + 1)) (hCl : CallsOK (ev_l X) G d2 cl ∧ hLm G lm ∧ 8 ≤ d2 ∧ LamsOK (ev_l X) G d2 cl) (S0 : HS0 X h0) (hret : (ev_h X).sig.returnType = (Option.some (Jvm.ClassFile.FieldType.object "GathersAllFaults$Look"))) (hXn : ev_n X = 8) (hini : (ev_s X).methodNamed? yX9_record = some (ev_m X)) (hTb : (ev_c X).exceptionTable.toList = []) (hJ8 : ∀ (x0 : Nat) (x1 : Option Nat) (x2 : Nat) (h : HS), J8 x0 x1 x2 h → GH X G h (hQ X G h0 Q E) 8 [(0, .ref x0), (1, va_rf x1), (2, .ref x2)] []) : ∀ (x0 : Nat) (x1 : Option Nat) (x2 : Nat) (x3 : Int32) (s0 : Int32) (h : HS), wb_X9_record_53 cl lm Q E J8 x0 x1 x2 x3 s0 h → GH X G h (hQ X G h0 Q E) 53 [(0, .ref x0), (1, va_rf x1), (2, .ref x2), (3, .int x3)] [.int s0] := by
  have hlm := hCl.2.1
  have hd8 := hCl.2.2.1
  have hd2 : 1 ≤ d2 := Nat.le_trans (by decide) hd8
  have hLa := hCl.2.2.2
  have hd1 : 1 ≤ d2 + 1 := Nat.le_add_left _ _
  have hC9 := hCl
  replace hCl := hCl.1
  intro x0 x1 x2 x3 s0 h hw
  unfold wb_X9_record_53 at hw
  refine gk_istore (pc := 53) (lv' := [(4, Value.int s0), (0, Value.ref x0), (1, va_rf x1), (2, Value.ref x2), (3, Value.int x3)]) C.1 dX9_record_53 (by rw [hXn]; decide) (by first | rfl | simp [va_rf_S, va_rf_cat, cat_i, cat_a, cat_l, cat_f, fin4_0, fin4_1, fin4_2, fin4_3]) ?_
  refine gk_aload_n (pc := 55) C.1 1 dX9_record_55 rfl rfl ?_
  refine gk_dup (pc := 56) C.1 dX9_record_56 rfl ?_
  obtain ⟨ht, hw⟩ := hw
  refine gf_X9_26 (pc := 57) C ht dX9_record_57 ?_
  refine gk_iload (pc := 60) C.1 0 dX9_record_60 rfl ?_
  refine gk_if_eq (pc := 62) (tgt := 69) C.1 dX9_record_62 (by decide) (fun c_1 => ?_) (fun c_1 => ?_)
  · replace hw := hw.1 c_1
    refine gk_iconst (pc := 69) (v := 0) C.1 dX9_record_69 (by decide) ?_
    refine GK.sub (lv' := [(0, .ref x0), (1, va_rf x1), (2, .ref x2), (3, .int x3), (4, .int s0)]) [1, 2, 3, 4, 0] rfl ?_
    exact wk_X9_record_70 C hC9 S0 hret hXn hini hTb hJ8 _ _ _ _ _ _ _ _ _ hw
  · replace hw := hw.2 c_1
    refine gk_iconst (pc := 65) (v := 1) C.1 dX9_record_65 (by decide) ?_
    refine gk_goto (pc := 66) (tgt := 70) C.1 dX9_record_66 (by decide) ?_
    refine GK.sub (lv' := [(0, .ref x0), (1, va_rf x1), (2, .ref x2), (3, .int x3), (4, .int s0)]) [1, 2, 3, 4, 0] rfl ?_
    exact wk_X9_record_70 C hC9 S0 hret hXn hini hTb hJ8 _ _ _ _ _ _ _ _ _ hw
def wb_X9_record_34 (cl : CT) (lm : Nat × Nat) (Q : QT) (E : ET) (J8 : Nat → Option Nat → Nat → HS → Prop) (x0 : Nat) (x1 : Option Nat) (x2 : Nat) (h : HS) : Prop := (hT h x0 = 15) ∧ (∀ x_1 : Int32, x_1 = hI h 49 x0 → (dp_Reader_here cl x0 [] h (gI (fun r_3 h_2 => ((¬ r_3 = 46 → (wb_X9_record_53 cl lm Q E J8 x0 x1 x2 x_1 0 h_2)) ∧ (r_3 = 46 → (wb_X9_record_53 cl lm Q E J8 x0 x1 x2 x_1 1 h_2))))) E))
theorem wk_X9_record_34 {X : Ev} {G : GG} {cl : CT} {lm : Nat × Nat} {Q : QT} {E : ET} {h0 : HS} {d2 : Nat} {J8 : Nat → Option Nat → Nat → HS → Prop} (C : HC X G RX9 cX9_record (d2 + 1)) (hCl : CallsOK (ev_l X) G d2 cl ∧ hLm G lm ∧ 8 ≤ d2 ∧ LamsOK (ev_l X) G d2 cl) (S0 : HS0 X h0) (hret : (ev_h X).sig.returnType = (Option.some (Jvm.ClassFile.FieldType.object "GathersAllFaults$Look"))) (hXn : ev_n X = 8) (hini : (ev_s X).methodNamed? yX9_record = some (ev_m X)) (hTb : (ev_c X).exceptionTable.toList = []) (hJ8 : ∀ (x0 : Nat) (x1 : Option Nat) (x2 : Nat) (h : HS), J8 x0 x1 x2 h → GH X G h (hQ X G h0 Q E) 8 [(0, .ref x0), (1, va_rf x1), (2, .ref x2)] []) : ∀ (x0 : Nat) (x1 : Option Nat) (x2 : Nat) (h : HS), wb_X9_record_34 cl lm Q E J8 x0 x1 x2 h → GH X G h (hQ X G h0 Q E) 34 [(0, .ref x0), (1, va_rf x1), (2, .ref x2)] [] := by
  have hlm := hCl.2.1
  have hd8 := hCl.2.2.1
  have hd2 : 1 ≤ d2 := Nat.le_trans (by decide) hd8
  have hLa := hCl.2.2.2
  have hd1 : 1 ≤ d2 + 1 := Nat.le_add_left _ _
  have hC9 := hCl
  replace hCl := hCl.1
  intro x0 x1 x2 h hw
  unfold wb_X9_record_34 at hw
  refine gk_aload_n (pc := 34) C.1 0 dX9_record_34 rfl rfl ?_
  obtain ⟨ht, hw⟩ := hw
  refine gf_X9_26 (pc := 35) C ht dX9_record_35 ?_
  obtain ⟨x_1, ex_1⟩ : ∃ z : Int32, z = hI h 49 x0 := ⟨_, rfl⟩
  rw [← ex_1]
  replace hw := hw x_1 ex_1
  refine gk_istore_n (pc := 38) (lv' := [(3, Value.int x_1), (0, Value.ref x0), (1, va_rf x1), (2, Value.ref x2)]) C.1 dX9_record_38 rfl (by rw [hXn]; decide) (by first | rfl | simp [va_rf_S, va_rf_cat, cat_i, cat_a, cat_l, cat_f, fin4_0, fin4_1, fin4_2, fin4_3]) ?_
  refine gk_aload_n (pc := 39) C.1 1 dX9_record_39 rfl rfl ?_
  refine gc_X9_38 (pc := 40) (As := []) (rest := []) C hCl (Nat.le_refl _) hw rfl rfl (Nat.le_of_ble_eq_true rfl) dX9_record_40 (fun v9 h_2 hp => ?_) (fun q_4 h_5 hw ht9 => ?_)
  rotate_left
  · exact gx_out C S0 (by rw [hTb]; decide) ht9 hw
  clear hw
  obtain ⟨r_3, rfl, hw⟩ := hp
  refine GK.at (p2 := 43) rfl ?_
  refine gk_bipush (pc := 43) (v := 46) C.1 dX9_record_43 (by decide) ?_
  refine gk_icmp_ne (pc := 45) (tgt := 52) C.1 dX9_record_45 (by decide) (fun c_6 => ?_) (fun c_6 => ?_)
  · replace hw := hw.1 c_6
    refine gk_iconst (pc := 52) (v := 0) C.1 dX9_record_52 (by decide) ?_
    refine GK.sub (lv' := [(0, .ref x0), (1, va_rf x1), (2, .ref x2), (3, .int x_1)]) [1, 2, 3, 0] rfl ?_
    exact wk_X9_record_53 C hC9 S0 hret hXn hini hTb hJ8 _ _ _ _ _ _ hw
  · replace hw := hw.2 c_6
    refine gk_iconst (pc := 48) (v := 1) C.1 dX9_record_48 (by decide) ?_
    refine gk_goto (pc := 49) (tgt := 53) C.1 dX9_record_49 (by decide) ?_
    refine GK.sub (lv' := [(0, .ref x0), (1, va_rf x1), (2, .ref x2), (3, .int x_1)]) [1, 2, 3, 0] rfl ?_
    exact wk_X9_record_53 C hC9 S0 hret hXn hini hTb hJ8 _ _ _ _ _ _ hw
def wb_X9_record_232 (cl : CT) (lm : Nat × Nat) (Q : QT) (E : ET) (J108 : Nat → Nat → HS → Prop) (x0 : Nat) (x2 : Nat) (x5 : Int32) (x6 : Int32) (s0 : Nat) (s1 : Nat) (s2 : Int32) (h : HS) : Prop := dp_Spec_hangs cl s0 [.ref s1, .int s2, .int x5, .int x6] h (gV (fun h_1 => J108 x0 x2 h_1)) E
theorem wk_X9_record_232 {X : Ev} {G : GG} {cl : CT} {lm : Nat × Nat} {Q : QT} {E : ET} {h0 : HS} {d2 : Nat} {J108 : Nat → Nat → HS → Prop} (C : HC X G RX9 cX9_record (d2 + 1)) (hCl : CallsOK (ev_l X) G d2 cl ∧ hLm G lm ∧ 8 ≤ d2 ∧ LamsOK (ev_l X) G d2 cl) (S0 : HS0 X h0) (hret : (ev_h X).sig.returnType = (Option.some (Jvm.ClassFile.FieldType.object "GathersAllFaults$Look"))) (hXn : ev_n X = 8) (hini : (ev_s X).methodNamed? yX9_record = some (ev_m X)) (hTb : (ev_c X).exceptionTable.toList = []) (hJ108 : ∀ (x0 : Nat) (x2 : Nat) (h : HS), J108 x0 x2 h → GH X G h (hQ X G h0 Q E) 108 [(0, .ref x0), (2, .ref x2)] []) : ∀ (x0 : Nat) (x2 : Nat) (x5 : Int32) (x6 : Int32) (s0 : Nat) (s1 : Nat) (s2 : Int32) (h : HS), wb_X9_record_232 cl lm Q E J108 x0 x2 x5 x6 s0 s1 s2 h → GH X G h (hQ X G h0 Q E) 232 [(0, .ref x0), (2, .ref x2), (5, .int x5), (6, .int x6)] [.int s2, .ref s1, .ref s0] := by
  have hlm := hCl.2.1
  have hd8 := hCl.2.2.1
  have hd2 : 1 ≤ d2 := Nat.le_trans (by decide) hd8
  have hLa := hCl.2.2.2
  have hd1 : 1 ≤ d2 + 1 := Nat.le_add_left _ _
  have hC9 := hCl
  replace hCl := hCl.1
  intro x0 x2 x5 x6 s0 s1 s2 h hw
  unfold wb_X9_record_232 at hw
  refine gk_iload (pc := 232) C.1 2 dX9_record_232 rfl ?_
  refine gk_iload (pc := 234) C.1 3 dX9_record_234 rfl ?_
  refine gc_X9_195 (pc := 236) (As := [.ref s1, .int s2, .int x5, .int x6]) (rest := []) C hCl (Nat.le_refl _) hw rfl rfl (Nat.le_of_ble_eq_true rfl) dX9_record_236 (fun v9 h_1 hp => ?_) (fun q_2 h_3 hw ht9 => ?_)
  rotate_left
  · exact gx_out C S0 (by rw [hTb]; decide) ht9 hw
  clear hw
  obtain ⟨rfl, hw⟩ := hp
  refine GK.at (p2 := 239) rfl ?_
  refine gk_goto (pc := 239) (tgt := 108) C.1 dX9_record_239 (by decide) ?_
  refine GK.sub (lv' := [(0, .ref x0), (2, .ref x2)]) [0, 1] rfl ?_
  exact hJ108 _ _ _ hw
def wb_X9_record_215 (cl : CT) (lm : Nat × Nat) (Q : QT) (E : ET) (J108 : Nat → Nat → HS → Prop) (x0 : Nat) (x2 : Nat) (x4 : Int32) (x5 : Int32) (x6 : Int32) (s0 : Nat) (h : HS) : Prop := ((x4 = 0 → (wb_X9_record_232 cl lm Q E J108 x0 x2 x5 x6 x2 s0 9 h)) ∧ (¬ x4 = 0 → (wb_X9_record_232 cl lm Q E J108 x0 x2 x5 x6 x2 s0 8 h)))
theorem wk_X9_record_215 {X : Ev} {G : GG} {cl : CT} {lm : Nat × Nat} {Q : QT} {E : ET} {h0 : HS} {d2 : Nat} {J108 : Nat → Nat → HS → Prop} (C : HC X G RX9 cX9_record (d2 + 1)) (hCl : CallsOK (ev_l X) G d2 cl ∧ hLm G lm ∧ 8 ≤ d2 ∧ LamsOK (ev_l X) G d2 cl) (S0 : HS0 X h0) (hret : (ev_h X).sig.returnType = (Option.some (Jvm.ClassFile.FieldType.object "GathersAllFaults$Look"))) (hXn : ev_n X = 8) (hini : (ev_s X).methodNamed? yX9_record = some (ev_m X)) (hTb : (ev_c X).exceptionTable.toList = []) (hJ108 : ∀ (x0 : Nat) (x2 : Nat) (h : HS), J108 x0 x2 h → GH X G h (hQ X G h0 Q E) 108 [(0, .ref x0), (2, .ref x2)] []) : ∀ (x0 : Nat) (x2 : Nat) (x4 : Int32) (x5 : Int32) (x6 : Int32) (s0 : Nat) (h : HS), wb_X9_record_215 cl lm Q E J108 x0 x2 x4 x5 x6 s0 h → GH X G h (hQ X G h0 Q E) 215 [(0, .ref x0), (2, .ref x2), (4, .int x4), (5, .int x5), (6, .int x6)] [.ref s0] := by
  have hlm := hCl.2.1
  have hd8 := hCl.2.2.1
  have hd2 : 1 ≤ d2 := Nat.le_trans (by decide) hd8
  have hLa := hCl.2.2.2
  have hd1 : 1 ≤ d2 + 1 := Nat.le_add_left _ _
  have hC9 := hCl
  replace hCl := hCl.1
  intro x0 x2 x4 x5 x6 s0 h hw
  unfold wb_X9_record_215 at hw
  refine gk_astore (pc := 215) (lv' := [(7, Value.ref s0), (0, Value.ref x0), (2, Value.ref x2), (4, Value.int x4), (5, Value.int x5), (6, Value.int x6)]) C.1 dX9_record_215 (by rw [hXn]; decide) (by first | rfl | simp [va_rf_S, va_rf_cat, cat_i, cat_a, cat_l, cat_f, fin4_0, fin4_1, fin4_2, fin4_3]) ?_
  refine gk_aload_n (pc := 217) C.1 2 dX9_record_217 rfl rfl ?_
  refine gk_aload (pc := 218) C.1 0 dX9_record_218 rfl ?_
  refine gk_iload (pc := 220) C.1 3 dX9_record_220 rfl ?_
  refine gk_if_eq (pc := 222) (tgt := 230) C.1 dX9_record_222 (by decide) (fun c_1 => ?_) (fun c_1 => ?_)
  · replace hw := hw.1 c_1
    refine gk_bipush (pc := 230) (v := 9) C.1 dX9_record_230 (by decide) ?_
    refine GK.sub (lv' := [(0, .ref x0), (2, .ref x2), (5, .int x5), (6, .int x6)]) [1, 2, 4, 5] rfl ?_
    exact wk_X9_record_232 C hC9 S0 hret hXn hini hTb hJ108 _ _ _ _ _ _ _ _ hw
  · replace hw := hw.2 c_1
    refine gk_bipush (pc := 225) (v := 8) C.1 dX9_record_225 (by decide) ?_
    refine gk_goto (pc := 227) (tgt := 232) C.1 dX9_record_227 (by decide) ?_
    refine GK.sub (lv' := [(0, .ref x0), (2, .ref x2), (5, .int x5), (6, .int x6)]) [1, 2, 4, 5] rfl ?_
    exact wk_X9_record_232 C hC9 S0 hret hXn hini hTb hJ108 _ _ _ _ _ _ _ _ hw
def wb_X9_record_193 (cl : CT) (lm : Nat × Nat) (Q : QT) (E : ET) (J108 : Nat → Nat → HS → Prop) (x0 : Nat) (x2 : Nat) (x3 : Int32) (x4 : Int32) (x5 : Int32) (x6 : Int32) (s0 : Nat) (s1 : Int32) (h : HS) : Prop := dp_Reader_wrong cl s0 [.int s1, .int x3] h (gV (fun h_1 => ((x4 = 0 → (∀ a_5 : Nat, hT h_1 a_5 = 305 → (wb_X9_record_215 cl lm Q E J108 x0 x2 x4 x5 x6 a_5 h_1))) ∧ (¬ x4 = 0 → (∀ a_6 : Nat, hT h_1 a_6 = 304 → (wb_X9_record_215 cl lm Q E J108 x0 x2 x4 x5 x6 a_6 h_1)))))) E
theorem wk_X9_record_193 {X : Ev} {G : GG} {cl : CT} {lm : Nat × Nat} {Q : QT} {E : ET} {h0 : HS} {d2 : Nat} {J108 : Nat → Nat → HS → Prop} (C : HC X G RX9 cX9_record (d2 + 1)) (hCl : CallsOK (ev_l X) G d2 cl ∧ hLm G lm ∧ 8 ≤ d2 ∧ LamsOK (ev_l X) G d2 cl) (S0 : HS0 X h0) (hret : (ev_h X).sig.returnType = (Option.some (Jvm.ClassFile.FieldType.object "GathersAllFaults$Look"))) (hXn : ev_n X = 8) (hini : (ev_s X).methodNamed? yX9_record = some (ev_m X)) (hTb : (ev_c X).exceptionTable.toList = []) (hJ108 : ∀ (x0 : Nat) (x2 : Nat) (h : HS), J108 x0 x2 h → GH X G h (hQ X G h0 Q E) 108 [(0, .ref x0), (2, .ref x2)] []) : ∀ (x0 : Nat) (x2 : Nat) (x3 : Int32) (x4 : Int32) (x5 : Int32) (x6 : Int32) (s0 : Nat) (s1 : Int32) (h : HS), wb_X9_record_193 cl lm Q E J108 x0 x2 x3 x4 x5 x6 s0 s1 h → GH X G h (hQ X G h0 Q E) 193 [(0, .ref x0), (2, .ref x2), (3, .int x3), (4, .int x4), (5, .int x5), (6, .int x6)] [.int s1, .ref s0] := by
  have hlm := hCl.2.1
  have hd8 := hCl.2.2.1
  have hd2 : 1 ≤ d2 := Nat.le_trans (by decide) hd8
  have hLa := hCl.2.2.2
  have hd1 : 1 ≤ d2 + 1 := Nat.le_add_left _ _
  have hC9 := hCl
  replace hCl := hCl.1
  intro x0 x2 x3 x4 x5 x6 s0 s1 h hw
  unfold wb_X9_record_193 at hw
  refine gk_iload_n (pc := 193) C.1 2 dX9_record_193 rfl rfl ?_
  refine gc_X9_63 (pc := 194) (As := [.int s1, .int x3]) (rest := []) C hCl (Nat.le_refl _) hw rfl rfl (Nat.le_of_ble_eq_true rfl) dX9_record_194 (fun v9 h_1 hp => ?_) (fun q_2 h_3 hw ht9 => ?_)
  rotate_left
  · exact gx_out C S0 (by rw [hTb]; decide) ht9 hw
  clear hw
  obtain ⟨rfl, hw⟩ := hp
  refine GK.at (p2 := 197) rfl ?_
  refine gk_iload (pc := 197) C.1 3 dX9_record_197 rfl ?_
  refine gk_if_eq (pc := 199) (tgt := 210) C.1 dX9_record_199 (by decide) (fun c_4 => ?_) (fun c_4 => ?_)
  · replace hw := hw.1 c_4
    refine gd_5 C hini (Nat.le_of_ble_eq_true rfl) dX9_record_210 (fun a_5 z3 => ?_)
    replace hw := hw a_5 z3
    refine GK.sub (lv' := [(0, .ref x0), (2, .ref x2), (4, .int x4), (5, .int x5), (6, .int x6)]) [0, 1, 3, 4, 5] rfl ?_
    exact wk_X9_record_215 C hC9 S0 hret hXn hini hTb hJ108 _ _ _ _ _ _ _ hw
  · replace hw := hw.2 c_4
    refine gd_4 C hini (Nat.le_of_ble_eq_true rfl) dX9_record_202 (fun a_6 z3 => ?_)
    replace hw := hw a_6 z3
    refine gk_goto (pc := 207) (tgt := 215) C.1 dX9_record_207 (by decide) ?_
    refine GK.sub (lv' := [(0, .ref x0), (2, .ref x2), (4, .int x4), (5, .int x5), (6, .int x6)]) [0, 1, 3, 4, 5] rfl ?_
    exact wk_X9_record_215 C hC9 S0 hret hXn hini hTb hJ108 _ _ _ _ _ _ _ hw
def wb_X9_record_188 (cl : CT) (lm : Nat × Nat) (Q : QT) (E : ET) (J108 : Nat → Nat → HS → Prop) (x0 : Nat) (x2 : Nat) (x3 : Int32) (x4 : Int32) (x5 : Int32) (x6 : Int32) (s0 : Nat) (h : HS) : Prop := wb_X9_record_193 cl lm Q E J108 x0 x2 x3 x4 x5 x6 s0 1 h
theorem wk_X9_record_188 {X : Ev} {G : GG} {cl : CT} {lm : Nat × Nat} {Q : QT} {E : ET} {h0 : HS} {d2 : Nat} {J108 : Nat → Nat → HS → Prop} (C : HC X G RX9 cX9_record (d2 + 1)) (hCl : CallsOK (ev_l X) G d2 cl ∧ hLm G lm ∧ 8 ≤ d2 ∧ LamsOK (ev_l X) G d2 cl) (S0 : HS0 X h0) (hret : (ev_h X).sig.returnType = (Option.some (Jvm.ClassFile.FieldType.object "GathersAllFaults$Look"))) (hXn : ev_n X = 8) (hini : (ev_s X).methodNamed? yX9_record = some (ev_m X)) (hTb : (ev_c X).exceptionTable.toList = []) (hJ108 : ∀ (x0 : Nat) (x2 : Nat) (h : HS), J108 x0 x2 h → GH X G h (hQ X G h0 Q E) 108 [(0, .ref x0), (2, .ref x2)] []) : ∀ (x0 : Nat) (x2 : Nat) (x3 : Int32) (x4 : Int32) (x5 : Int32) (x6 : Int32) (s0 : Nat) (h : HS), wb_X9_record_188 cl lm Q E J108 x0 x2 x3 x4 x5 x6 s0 h → GH X G h (hQ X G h0 Q E) 188 [(0, .ref x0), (2, .ref x2), (3, .int x3), (4, .int x4), (5, .int x5), (6, .int x6)] [.ref s0] := by
  have hlm := hCl.2.1
  have hd8 := hCl.2.2.1
  have hd2 : 1 ≤ d2 := Nat.le_trans (by decide) hd8
  have hLa := hCl.2.2.2
  have hd1 : 1 ≤ d2 + 1 := Nat.le_add_left _ _
  have hC9 := hCl
  replace hCl := hCl.1
  intro x0 x2 x3 x4 x5 x6 s0 h hw
  unfold wb_X9_record_188 at hw
  refine gk_iconst (pc := 188) (v := 1) C.1 dX9_record_188 (by decide) ?_
  refine gk_goto (pc := 189) (tgt := 193) C.1 dX9_record_189 (by decide) ?_
  refine GK.sub (lv' := [(0, .ref x0), (2, .ref x2), (3, .int x3), (4, .int x4), (5, .int x5), (6, .int x6)]) [0, 1, 2, 3, 4, 5] rfl ?_
  exact wk_X9_record_193 C hC9 S0 hret hXn hini hTb hJ108 _ _ _ _ _ _ _ _ _ hw
def wb_X9_record_145 (cl : CT) (lm : Nat × Nat) (Q : QT) (E : ET) (J108 : Nat → Nat → HS → Prop) (x0 : Nat) (x2 : Nat) (x3 : Int32) (s0 : Int32) (h : HS) : Prop := (hT h x0 = 15) ∧ ((hT h x0 = 15) ∧ (∀ h_1 : HS, h_1 = sI h 49 x0 ((hI h 49 x0) + 1) → (dp_Reader_name cl x0 [] h_1 (gI (fun r_3 h_2 => dp_Reader_name cl x0 [] h_2 (gI (fun r_7 h_6 => dp_Spec_isField cl x2 [.int r_3] h_6 (gI (fun r_11 h_10 => ((r_11 = 0 → (wb_X9_record_188 cl lm Q E J108 x0 x2 x3 s0 r_3 r_7 x0 h_10)) ∧ (¬ r_11 = 0 → (dp_Spec_isField cl x2 [.int r_7] h_10 (gI (fun r_16 h_15 => ((¬ r_16 = 0 → (wb_X9_record_193 cl lm Q E J108 x0 x2 x3 s0 r_3 r_7 x0 0 h_15)) ∧ (r_16 = 0 → (wb_X9_record_188 cl lm Q E J108 x0 x2 x3 s0 r_3 r_7 x0 h_15))))) E))))) E)) E)) E)))
theorem wk_X9_record_145 {X : Ev} {G : GG} {cl : CT} {lm : Nat × Nat} {Q : QT} {E : ET} {h0 : HS} {d2 : Nat} {J108 : Nat → Nat → HS → Prop} (C : HC X G RX9 cX9_record (d2 + 1)) (hCl : CallsOK (ev_l X) G d2 cl ∧ hLm G lm ∧ 8 ≤ d2 ∧ LamsOK (ev_l X) G d2 cl) (S0 : HS0 X h0) (hret : (ev_h X).sig.returnType = (Option.some (Jvm.ClassFile.FieldType.object "GathersAllFaults$Look"))) (hXn : ev_n X = 8) (hini : (ev_s X).methodNamed? yX9_record = some (ev_m X)) (hTb : (ev_c X).exceptionTable.toList = []) (hJ108 : ∀ (x0 : Nat) (x2 : Nat) (h : HS), J108 x0 x2 h → GH X G h (hQ X G h0 Q E) 108 [(0, .ref x0), (2, .ref x2)] []) : ∀ (x0 : Nat) (x2 : Nat) (x3 : Int32) (s0 : Int32) (h : HS), wb_X9_record_145 cl lm Q E J108 x0 x2 x3 s0 h → GH X G h (hQ X G h0 Q E) 145 [(0, .ref x0), (2, .ref x2), (3, .int x3)] [.int s0] := by
  have hlm := hCl.2.1
  have hd8 := hCl.2.2.1
  have hd2 : 1 ≤ d2 := Nat.le_trans (by decide) hd8
  have hLa := hCl.2.2.2
  have hd1 : 1 ≤ d2 + 1 := Nat.le_add_left _ _
  have hC9 := hCl
  replace hCl := hCl.1
  intro x0 x2 x3 s0 h hw
  unfold wb_X9_record_145 at hw
  refine gk_istore (pc := 145) (lv' := [(4, Value.int s0), (0, Value.ref x0), (2, Value.ref x2), (3, Value.int x3)]) C.1 dX9_record_145 (by rw [hXn]; decide) (by first | rfl | simp [va_rf_S, va_rf_cat, cat_i, cat_a, cat_l, cat_f, fin4_0, fin4_1, fin4_2, fin4_3]) ?_
  refine gk_aload_n (pc := 147) C.1 1 dX9_record_147 rfl rfl ?_
  refine gk_dup (pc := 148) C.1 dX9_record_148 rfl ?_
  obtain ⟨ht, hw⟩ := hw
  refine gf_X9_26 (pc := 149) C ht dX9_record_149 ?_
  refine gk_iconst (pc := 152) (v := 1) C.1 dX9_record_152 (by decide) ?_
  refine gk_iadd (pc := 153) C.1 dX9_record_153 ?_
  obtain ⟨ht, hw⟩ := hw
  refine gfp_X9_26 (pc := 154) C ht dX9_record_154 (fun h_1 eh_1 => ?_)
  replace hw := hw h_1 eh_1
  refine gk_aload_n (pc := 157) C.1 1 dX9_record_157 rfl rfl ?_
  refine gc_X9_86 (pc := 158) (As := []) (rest := []) C hCl (Nat.le_refl _) hw rfl rfl (Nat.le_of_ble_eq_true rfl) dX9_record_158 (fun v9 h_2 hp => ?_) (fun q_4 h_5 hw ht9 => ?_)
  rotate_left
  · exact gx_out C S0 (by rw [hTb]; decide) ht9 hw
  clear hw
  obtain ⟨r_3, rfl, hw⟩ := hp
  refine GK.at (p2 := 161) rfl ?_
  refine gk_istore (pc := 161) (lv' := [(5, Value.int r_3), (4, Value.int s0), (0, Value.ref x0), (2, Value.ref x2), (3, Value.int x3)]) C.1 dX9_record_161 (by rw [hXn]; decide) (by first | rfl | simp [va_rf_S, va_rf_cat, cat_i, cat_a, cat_l, cat_f, fin4_0, fin4_1, fin4_2, fin4_3]) ?_
  refine gk_aload_n (pc := 163) C.1 2 dX9_record_163 rfl rfl ?_
  refine gc_X9_86 (pc := 164) (As := []) (rest := []) C hCl (Nat.le_refl _) hw rfl rfl (Nat.le_of_ble_eq_true rfl) dX9_record_164 (fun v9 h_6 hp => ?_) (fun q_8 h_9 hw ht9 => ?_)
  rotate_left
  · exact gx_out C S0 (by rw [hTb]; decide) ht9 hw
  clear hw
  obtain ⟨r_7, rfl, hw⟩ := hp
  refine GK.at (p2 := 167) rfl ?_
  refine gk_istore (pc := 167) (lv' := [(6, Value.int r_7), (5, Value.int r_3), (4, Value.int s0), (0, Value.ref x0), (2, Value.ref x2), (3, Value.int x3)]) C.1 dX9_record_167 (by rw [hXn]; decide) (by first | rfl | simp [va_rf_S, va_rf_cat, cat_i, cat_a, cat_l, cat_f, fin4_0, fin4_1, fin4_2, fin4_3]) ?_
  refine gk_aload_n (pc := 169) C.1 3 dX9_record_169 rfl rfl ?_
  refine gk_aload_n (pc := 170) C.1 4 dX9_record_170 rfl rfl ?_
  refine gk_iload (pc := 171) C.1 1 dX9_record_171 rfl ?_
  refine gc_X9_182 (pc := 173) (As := [.int r_3]) (rest := [.ref x0]) C hCl (Nat.le_refl _) hw rfl rfl (Nat.le_of_ble_eq_true rfl) dX9_record_173 (fun v9 h_10 hp => ?_) (fun q_12 h_13 hw ht9 => ?_)
  rotate_left
  · exact gx_out C S0 (by rw [hTb]; decide) ht9 hw
  clear hw
  obtain ⟨r_11, rfl, hw⟩ := hp
  refine GK.at (p2 := 176) rfl ?_
  refine gk_if_eq (pc := 176) (tgt := 188) C.1 dX9_record_176 (by decide) (fun c_14 => ?_) (fun c_14 => ?_)
  · replace hw := hw.1 c_14
    refine GK.sub (lv' := [(0, .ref x0), (2, .ref x2), (3, .int x3), (4, .int s0), (5, .int r_3), (6, .int r_7)]) [3, 4, 5, 2, 1, 0] rfl ?_
    exact wk_X9_record_188 C hC9 S0 hret hXn hini hTb hJ108 _ _ _ _ _ _ _ _ hw
  · replace hw := hw.2 c_14
    refine gk_aload_n (pc := 179) C.1 4 dX9_record_179 rfl rfl ?_
    refine gk_iload (pc := 180) C.1 0 dX9_record_180 rfl ?_
    refine gc_X9_182 (pc := 182) (As := [.int r_7]) (rest := [.ref x0]) C hCl (Nat.le_refl _) hw rfl rfl (Nat.le_of_ble_eq_true rfl) dX9_record_182 (fun v9 h_15 hp => ?_) (fun q_17 h_18 hw ht9 => ?_)
    rotate_left
    · exact gx_out C S0 (by rw [hTb]; decide) ht9 hw
    clear hw
    obtain ⟨r_16, rfl, hw⟩ := hp
    refine GK.at (p2 := 185) rfl ?_
    refine gk_if_ne (pc := 185) (tgt := 192) C.1 dX9_record_185 (by decide) (fun c_19 => ?_) (fun c_19 => ?_)
    · replace hw := hw.1 c_19
      refine gk_iconst (pc := 192) (v := 0) C.1 dX9_record_192 (by decide) ?_
      refine GK.sub (lv' := [(0, .ref x0), (2, .ref x2), (3, .int x3), (4, .int s0), (5, .int r_3), (6, .int r_7)]) [3, 4, 5, 2, 1, 0] rfl ?_
      exact wk_X9_record_193 C hC9 S0 hret hXn hini hTb hJ108 _ _ _ _ _ _ _ _ _ hw
    · replace hw := hw.2 c_19
      refine GK.sub (lv' := [(0, .ref x0), (2, .ref x2), (3, .int x3), (4, .int s0), (5, .int r_3), (6, .int r_7)]) [3, 4, 5, 2, 1, 0] rfl ?_
      exact wk_X9_record_188 C hC9 S0 hret hXn hini hTb hJ108 _ _ _ _ _ _ _ _ hw
def wb_X9_record_126 (cl : CT) (lm : Nat × Nat) (Q : QT) (E : ET) (J108 : Nat → Nat → HS → Prop) (x0 : Nat) (x2 : Nat) (h : HS) : Prop := (hT h x0 = 15) ∧ (∀ x_1 : Int32, x_1 = hI h 49 x0 → (dp_Reader_here cl x0 [] h (gI (fun r_3 h_2 => ((¬ r_3 = 60 → (wb_X9_record_145 cl lm Q E J108 x0 x2 x_1 0 h_2)) ∧ (r_3 = 60 → (wb_X9_record_145 cl lm Q E J108 x0 x2 x_1 1 h_2))))) E))
theorem wk_X9_record_126 {X : Ev} {G : GG} {cl : CT} {lm : Nat × Nat} {Q : QT} {E : ET} {h0 : HS} {d2 : Nat} {J108 : Nat → Nat → HS → Prop} (C : HC X G RX9 cX9_record (d2 + 1)) (hCl : CallsOK (ev_l X) G d2 cl ∧ hLm G lm ∧ 8 ≤ d2 ∧ LamsOK (ev_l X) G d2 cl) (S0 : HS0 X h0) (hret : (ev_h X).sig.returnType = (Option.some (Jvm.ClassFile.FieldType.object "GathersAllFaults$Look"))) (hXn : ev_n X = 8) (hini : (ev_s X).methodNamed? yX9_record = some (ev_m X)) (hTb : (ev_c X).exceptionTable.toList = []) (hJ108 : ∀ (x0 : Nat) (x2 : Nat) (h : HS), J108 x0 x2 h → GH X G h (hQ X G h0 Q E) 108 [(0, .ref x0), (2, .ref x2)] []) : ∀ (x0 : Nat) (x2 : Nat) (h : HS), wb_X9_record_126 cl lm Q E J108 x0 x2 h → GH X G h (hQ X G h0 Q E) 126 [(0, .ref x0), (2, .ref x2)] [] := by
  have hlm := hCl.2.1
  have hd8 := hCl.2.2.1
  have hd2 : 1 ≤ d2 := Nat.le_trans (by decide) hd8
  have hLa := hCl.2.2.2
  have hd1 : 1 ≤ d2 + 1 := Nat.le_add_left _ _
  have hC9 := hCl
  replace hCl := hCl.1
  intro x0 x2 h hw
  unfold wb_X9_record_126 at hw
  refine gk_aload_n (pc := 126) C.1 0 dX9_record_126 rfl rfl ?_
  obtain ⟨ht, hw⟩ := hw
  refine gf_X9_26 (pc := 127) C ht dX9_record_127 ?_
  obtain ⟨x_1, ex_1⟩ : ∃ z : Int32, z = hI h 49 x0 := ⟨_, rfl⟩
  rw [← ex_1]
  replace hw := hw x_1 ex_1
  refine gk_istore_n (pc := 130) (lv' := [(3, Value.int x_1), (0, Value.ref x0), (2, Value.ref x2)]) C.1 dX9_record_130 rfl (by rw [hXn]; decide) (by first | rfl | simp [va_rf_S, va_rf_cat, cat_i, cat_a, cat_l, cat_f, fin4_0, fin4_1, fin4_2, fin4_3]) ?_
  refine gk_aload_n (pc := 131) C.1 1 dX9_record_131 rfl rfl ?_
  refine gc_X9_38 (pc := 132) (As := []) (rest := []) C hCl (Nat.le_refl _) hw rfl rfl (Nat.le_of_ble_eq_true rfl) dX9_record_132 (fun v9 h_2 hp => ?_) (fun q_4 h_5 hw ht9 => ?_)
  rotate_left
  · exact gx_out C S0 (by rw [hTb]; decide) ht9 hw
  clear hw
  obtain ⟨r_3, rfl, hw⟩ := hp
  refine GK.at (p2 := 135) rfl ?_
  refine gk_bipush (pc := 135) (v := 60) C.1 dX9_record_135 (by decide) ?_
  refine gk_icmp_ne (pc := 137) (tgt := 144) C.1 dX9_record_137 (by decide) (fun c_6 => ?_) (fun c_6 => ?_)
  · replace hw := hw.1 c_6
    refine gk_iconst (pc := 144) (v := 0) C.1 dX9_record_144 (by decide) ?_
    refine GK.sub (lv' := [(0, .ref x0), (2, .ref x2), (3, .int x_1)]) [1, 2, 0] rfl ?_
    exact wk_X9_record_145 C hC9 S0 hret hXn hini hTb hJ108 _ _ _ _ _ hw
  · replace hw := hw.2 c_6
    refine gk_iconst (pc := 140) (v := 1) C.1 dX9_record_140 (by decide) ?_
    refine gk_goto (pc := 141) (tgt := 145) C.1 dX9_record_141 (by decide) ?_
    refine GK.sub (lv' := [(0, .ref x0), (2, .ref x2), (3, .int x_1)]) [1, 2, 0] rfl ?_
    exact wk_X9_record_145 C hC9 S0 hret hXn hini hTb hJ108 _ _ _ _ _ hw
def wb_X9_record_108 (cl : CT) (lm : Nat × Nat) (Q : QT) (E : ET) : Nat → Nat → Nat → HS → Prop
  | 0 => fun _ _ _ => False
  | n + 1 => fun x0 x2 h => dp_Reader_here cl x0 [] h (gI (fun r_2 h_1 => ((r_2 = 60 → (wb_X9_record_126 cl lm Q E (fun yx0 yx2 yh => wb_X9_record_108 cl lm Q E n yx0 yx2 yh) x0 x2 h_1)) ∧ (¬ r_2 = 60 → (dp_Reader_here cl x0 [] h_1 (gI (fun r_7 h_6 => ((¬ r_7 = 61 → (dp_Reader_take cl x0 [.int 125] h_6 (gV (fun h_11 => dp_Spec_look cl x2 [] h_11 (gR (fun r_15 h_14 => Q (some (va_rf r_15)) h_14)) E)) E)) ∧ (r_7 = 61 → (wb_X9_record_126 cl lm Q E (fun yx0 yx2 yh => wb_X9_record_108 cl lm Q E n yx0 yx2 yh) x0 x2 h_6))))) E))))) E
theorem wk_X9_record_108 {X : Ev} {G : GG} {cl : CT} {lm : Nat × Nat} {Q : QT} {E : ET} {h0 : HS} {d2 : Nat} (C : HC X G RX9 cX9_record (d2 + 1)) (hCl : CallsOK (ev_l X) G d2 cl ∧ hLm G lm ∧ 8 ≤ d2 ∧ LamsOK (ev_l X) G d2 cl) (S0 : HS0 X h0) (hret : (ev_h X).sig.returnType = (Option.some (Jvm.ClassFile.FieldType.object "GathersAllFaults$Look"))) (hXn : ev_n X = 8) (hini : (ev_s X).methodNamed? yX9_record = some (ev_m X)) (hTb : (ev_c X).exceptionTable.toList = []) : ∀ (n : Nat) (x0 : Nat) (x2 : Nat) (h : HS), wb_X9_record_108 cl lm Q E n x0 x2 h → GH X G h (hQ X G h0 Q E) 108 [(0, .ref x0), (2, .ref x2)] [] := by
  have hlm := hCl.2.1
  have hd8 := hCl.2.2.1
  have hd2 : 1 ≤ d2 := Nat.le_trans (by decide) hd8
  have hLa := hCl.2.2.2
  have hd1 : 1 ≤ d2 + 1 := Nat.le_add_left _ _
  have hC9 := hCl
  replace hCl := hCl.1
  intro n
  induction n with
  | zero => intro x0 x2 h hw; exact hw.elim
  | succ n ih =>
  intro x0 x2 h hw
  unfold wb_X9_record_108 at hw
  refine gk_aload_n (pc := 108) C.1 0 dX9_record_108 rfl rfl ?_
  refine gc_X9_38 (pc := 109) (As := []) (rest := []) C hCl (Nat.le_refl _) hw rfl rfl (Nat.le_of_ble_eq_true rfl) dX9_record_109 (fun v9 h_1 hp => ?_) (fun q_3 h_4 hw ht9 => ?_)
  rotate_left
  · exact gx_out C S0 (by rw [hTb]; decide) ht9 hw
  clear hw
  obtain ⟨r_2, rfl, hw⟩ := hp
  refine GK.at (p2 := 112) rfl ?_
  refine gk_bipush (pc := 112) (v := 60) C.1 dX9_record_112 (by decide) ?_
  refine gk_icmp_eq (pc := 114) (tgt := 126) C.1 dX9_record_114 (by decide) (fun c_5 => ?_) (fun c_5 => ?_)
  · replace hw := hw.1 c_5
    refine GK.sub (lv' := [(0, .ref x0), (2, .ref x2)]) [0, 1] rfl ?_
    exact wk_X9_record_126 C hC9 S0 hret hXn hini hTb ih _ _ _ hw
  · replace hw := hw.2 c_5
    refine gk_aload_n (pc := 117) C.1 0 dX9_record_117 rfl rfl ?_
    refine gc_X9_38 (pc := 118) (As := []) (rest := []) C hCl (Nat.le_refl _) hw rfl rfl (Nat.le_of_ble_eq_true rfl) dX9_record_118 (fun v9 h_6 hp => ?_) (fun q_8 h_9 hw ht9 => ?_)
    rotate_left
    · exact gx_out C S0 (by rw [hTb]; decide) ht9 hw
    clear hw
    obtain ⟨r_7, rfl, hw⟩ := hp
    refine GK.at (p2 := 121) rfl ?_
    refine gk_bipush (pc := 121) (v := 61) C.1 dX9_record_121 (by decide) ?_
    refine gk_icmp_ne (pc := 123) (tgt := 242) C.1 dX9_record_123 (by decide) (fun c_10 => ?_) (fun c_10 => ?_)
    · replace hw := hw.1 c_10
      refine gk_aload_n (pc := 242) C.1 0 dX9_record_242 rfl rfl ?_
      refine gk_bipush (pc := 243) (v := 125) C.1 dX9_record_243 (by decide) ?_
      refine gc_X9_116 (pc := 245) (As := [.int 125]) (rest := []) C hCl (Nat.le_refl _) hw rfl rfl (Nat.le_of_ble_eq_true rfl) dX9_record_245 (fun v9 h_11 hp => ?_) (fun q_12 h_13 hw ht9 => ?_)
      rotate_left
      · exact gx_out C S0 (by rw [hTb]; decide) ht9 hw
      clear hw
      obtain ⟨rfl, hw⟩ := hp
      refine GK.at (p2 := 248) rfl ?_
      refine gk_aload_n (pc := 248) C.1 1 dX9_record_248 rfl rfl ?_
      refine gc_X9_199 (pc := 249) (As := []) (rest := []) C hCl (Nat.le_refl _) hw rfl rfl (Nat.le_of_ble_eq_true rfl) dX9_record_249 (fun v9 h_14 hp => ?_) (fun q_16 h_17 hw ht9 => ?_)
      rotate_left
      · exact gx_out C S0 (by rw [hTb]; decide) ht9 hw
      clear hw
      obtain ⟨r_15, rfl, hw⟩ := hp
      refine GK.at (p2 := 252) rfl ?_
      exact gh_aret (pc := 252) (r := r_15) C S0 hret (Or.inl ⟨_, rfl⟩) dX9_record_252 hw
    · replace hw := hw.2 c_10
      refine GK.sub (lv' := [(0, .ref x0), (2, .ref x2)]) [0, 1] rfl ?_
      exact wk_X9_record_126 C hC9 S0 hret hXn hini hTb ih _ _ _ hw
def wb_X9_record_8 (cl : CT) (lm : Nat × Nat) (Q : QT) (E : ET) : Nat → Nat → Option Nat → Nat → HS → Prop
  | 0 => fun _ _ _ _ => False
  | n + 1 => fun x0 x1 x2 h => dp_Reader_here cl x0 [] h (gI (fun r_2 h_1 => ((r_2 = 46 → (wb_X9_record_34 cl lm Q E (fun yx0 yx1 yx2 yh => wb_X9_record_8 cl lm Q E n yx0 yx1 yx2 yh) x0 x1 x2 h_1)) ∧ (¬ r_2 = 46 → (dp_Reader_here cl x0 [] h_1 (gI (fun r_7 h_6 => cl 78 [.long ((r_7 : Int32).toInt64), .long 97, .long 101] h_6 (gI (fun r_11 h_10 => ((r_11 = 0 → (∃ fu : Nat, wb_X9_record_108 cl lm Q E fu x0 x2 h_10)) ∧ (¬ r_11 = 0 → (wb_X9_record_34 cl lm Q E (fun yx0 yx1 yx2 yh => wb_X9_record_8 cl lm Q E n yx0 yx1 yx2 yh) x0 x1 x2 h_10))))) E)) E))))) E
theorem wk_X9_record_8 {X : Ev} {G : GG} {cl : CT} {lm : Nat × Nat} {Q : QT} {E : ET} {h0 : HS} {d2 : Nat} (C : HC X G RX9 cX9_record (d2 + 1)) (hCl : CallsOK (ev_l X) G d2 cl ∧ hLm G lm ∧ 8 ≤ d2 ∧ LamsOK (ev_l X) G d2 cl) (S0 : HS0 X h0) (hret : (ev_h X).sig.returnType = (Option.some (Jvm.ClassFile.FieldType.object "GathersAllFaults$Look"))) (hXn : ev_n X = 8) (hini : (ev_s X).methodNamed? yX9_record = some (ev_m X)) (hTb : (ev_c X).exceptionTable.toList = []) : ∀ (n : Nat) (x0 : Nat) (x1 : Option Nat) (x2 : Nat) (h : HS), wb_X9_record_8 cl lm Q E n x0 x1 x2 h → GH X G h (hQ X G h0 Q E) 8 [(0, .ref x0), (1, va_rf x1), (2, .ref x2)] [] := by
  have hlm := hCl.2.1
  have hd8 := hCl.2.2.1
  have hd2 : 1 ≤ d2 := Nat.le_trans (by decide) hd8
  have hLa := hCl.2.2.2
  have hd1 : 1 ≤ d2 + 1 := Nat.le_add_left _ _
  have hC9 := hCl
  replace hCl := hCl.1
  intro n
  induction n with
  | zero => intro x0 x1 x2 h hw; exact hw.elim
  | succ n ih =>
  intro x0 x1 x2 h hw
  unfold wb_X9_record_8 at hw
  refine gk_aload_n (pc := 8) C.1 0 dX9_record_8 rfl rfl ?_
  refine gc_X9_38 (pc := 9) (As := []) (rest := []) C hCl (Nat.le_refl _) hw rfl rfl (Nat.le_of_ble_eq_true rfl) dX9_record_9 (fun v9 h_1 hp => ?_) (fun q_3 h_4 hw ht9 => ?_)
  rotate_left
  · exact gx_out C S0 (by rw [hTb]; decide) ht9 hw
  clear hw
  obtain ⟨r_2, rfl, hw⟩ := hp
  refine GK.at (p2 := 12) rfl ?_
  refine gk_bipush (pc := 12) (v := 46) C.1 dX9_record_12 (by decide) ?_
  refine gk_icmp_eq (pc := 14) (tgt := 34) C.1 dX9_record_14 (by decide) (fun c_5 => ?_) (fun c_5 => ?_)
  · replace hw := hw.1 c_5
    refine GK.sub (lv' := [(0, .ref x0), (1, va_rf x1), (2, .ref x2)]) [0, 1, 2] rfl ?_
    exact wk_X9_record_34 C hC9 S0 hret hXn hini hTb ih _ _ _ _ hw
  · replace hw := hw.2 c_5
    refine gk_aload_n (pc := 17) C.1 0 dX9_record_17 rfl rfl ?_
    refine gc_X9_38 (pc := 18) (As := []) (rest := []) C hCl (Nat.le_refl _) hw rfl rfl (Nat.le_of_ble_eq_true rfl) dX9_record_18 (fun v9 h_6 hp => ?_) (fun q_8 h_9 hw ht9 => ?_)
    rotate_left
    · exact gx_out C S0 (by rw [hTb]; decide) ht9 hw
    clear hw
    obtain ⟨r_7, rfl, hw⟩ := hp
    refine GK.at (p2 := 21) rfl ?_
    refine gk_i2l (pc := 21) C.1 dX9_record_21 ?_
    refine gk_ldc2 (pc := 22) (v := 97) C.1 q565 dX9_record_22 ?_
    refine gk_ldc2 (pc := 25) (v := 101) C.1 q566 dX9_record_25 ?_
    refine gc_X9_50 (pc := 28) (As := [.long ((r_7 : Int32).toInt64), .long 97, .long 101]) (rest := []) C hCl (Nat.le_refl _) hw rfl rfl (Nat.le_of_ble_eq_true rfl) dX9_record_28 (fun v9 h_10 hp => ?_) (fun q_12 h_13 hw ht9 => ?_)
    rotate_left
    · exact gx_out C S0 (by rw [hTb]; decide) ht9 hw
    clear hw
    obtain ⟨r_11, rfl, hw⟩ := hp
    refine GK.at (p2 := 31) rfl ?_
    refine gk_if_eq (pc := 31) (tgt := 108) C.1 dX9_record_31 (by decide) (fun c_14 => ?_) (fun c_14 => ?_)
    · replace hw := hw.1 c_14
      refine GK.sub (lv' := [(0, .ref x0), (2, .ref x2)]) [0, 2] rfl ?_
      obtain ⟨n9, hw⟩ := hw
      exact wk_X9_record_108 C hC9 S0 hret hXn hini hTb  n9 _ _ _ hw
    · replace hw := hw.2 c_14
      refine GK.sub (lv' := [(0, .ref x0), (1, va_rf x1), (2, .ref x2)]) [0, 1, 2] rfl ?_
      exact wk_X9_record_34 C hC9 S0 hret hXn hini hTb ih _ _ _ _ hw
def wb_X9_record (cl : CT) (lm : Nat × Nat) (Q : QT) (E : ET) (x0 : Nat) (x1 : Option Nat) (h : HS) : Prop := hZ h + 1 ≤ lm.1 ∧ (hL h + 4 ≤ lm.2 ∧ (∀ (a_2 : Nat) (h_1 : HS), a_2 = hZ h → h_1 = hNew h 12 0 4 → (cl 230 (.ref a_2 :: []) h_1 (gV (fun h_3 => ∃ fu : Nat, wb_X9_record_8 cl lm Q E fu x0 x1 a_2 h_3)) E)))
theorem wx_X9_record {l : Launch} (hst : l.stackTraces = false) {G : GG} {cl : CT} {lm : Nat × Nat} {Q : QT} {E : ET} {d2 : Nat} (hCl : CallsOK l G d2 cl ∧ hLm G lm ∧ 8 ≤ d2 ∧ LamsOK l G d2 cl) {x0 : Nat} {x1 : Option Nat} {h : HS} (hw : wb_X9_record cl lm Q E x0 x1 h) : HMet l G yX9_record (ws_ yX9_record cX9_record 8 ((Option.some (Jvm.ClassFile.FieldType.object "GathersAllFaults$Look")))) (d2 + 1) [.ref x0, va_rf x1] h Q E := by
  refine gh_met (own := RX9) rfl (by decide +kernel) hst (by simp only [lg_sl_i, lg_sl_r, lg_sl_a, lg_sl_2, lg_sl_f, lg_sl_0]; decide) (fun X hXl hXn hret hnm hTb h0 eh C S0 => ?_)
  subst hXl
  have hlm := hCl.2.1
  have hd8 := hCl.2.2.1
  have hd2 : 1 ≤ d2 := Nat.le_trans (by decide) hd8
  have hLa := hCl.2.2.2
  have hd1 : 1 ≤ d2 + 1 := Nat.le_add_left _ _
  have hC9 := hCl
  replace hCl := hCl.1
  have hini : (ev_s X).methodNamed? yX9_record = some (ev_m X) := hnm.2
  unfold wb_X9_record at hw
  refine GK.sub (lv' := [(0, .ref x0), (1, va_rf x1)]) [0, 1] (by simp only [lv_args_i, lv_args_r, lv_args_a, lv_args_l, lv_args_f, lv_args_0]; rfl) ?_
  obtain ⟨hr1, hr2, hw⟩ := hw
  refine gn_X9_179 (pc := 0) C (hlm.1 ▸ hr1) (hlm.2 ▸ hr2) dX9_record_0 (fun h_1 eh_1 => ?_)
  obtain ⟨a_2, ea_2⟩ : ∃ z : Nat, z = hZ h := ⟨_, rfl⟩
  rw [← ea_2]
  replace hw := hw a_2 h_1 ea_2 eh_1
  refine gk_dup (pc := 3) C.1 dX9_record_3 rfl ?_
  refine gc_X9_181 (pc := 4) (As := []) (rest := [.ref a_2]) C hCl (Nat.le_refl _) hw rfl rfl (Nat.le_of_ble_eq_true rfl) dX9_record_4 (fun v9 h_3 hp => ?_) (fun q_4 h_5 hw ht9 => ?_)
  rotate_left
  · exact gx_out C S0 (by rw [hTb]; decide) ht9 hw
  clear hw
  obtain ⟨rfl, hw⟩ := hp
  refine GK.at (p2 := 7) rfl ?_
  refine gk_astore_n (pc := 7) (lv' := [(2, Value.ref a_2), (0, Value.ref x0), (1, va_rf x1)]) C.1 dX9_record_7 rfl (by rw [hXn]; decide) (by first | rfl | simp [va_rf_S, va_rf_cat, cat_i, cat_a, cat_l, cat_f, fin4_0, fin4_1, fin4_2, fin4_3]) ?_
  refine GK.sub (lv' := [(0, .ref x0), (1, va_rf x1), (2, .ref a_2)]) [1, 2, 0] rfl ?_
  obtain ⟨n9, hw⟩ := hw
  exact wk_X9_record_8 C hC9 S0 hret hXn hini hTb  n9 _ _ _ _ hw
/-! 195: GathersAllFaults$Reader.take(I)V -/
def wb_X9_take_14 (cl : CT) (lm : Nat × Nat) (Q : QT) (E : ET) (x0 : Nat) (s0 : Nat) (s1 : Int32) (h : HS) : Prop := dp_Reader_mustStand cl s0 [.int s1] h (gV (fun h_1 => (hT h_1 x0 = 15) ∧ ((hT h_1 x0 = 15) ∧ (∀ h_4 : HS, h_4 = sI h_1 49 x0 ((hI h_1 49 x0) + 1) → (Q none h_4))))) E
theorem wk_X9_take_14 {X : Ev} {G : GG} {cl : CT} {lm : Nat × Nat} {Q : QT} {E : ET} {h0 : HS} {d2 : Nat} (C : HC X G RX9 cX9_take (d2 + 1)) (hCl : CallsOK (ev_l X) G d2 cl ∧ hLm G lm ∧ 8 ≤ d2 ∧ LamsOK (ev_l X) G d2 cl) (S0 : HS0 X h0) (hret : (ev_h X).sig.returnType = (Option.none : Option Jvm.ClassFile.FieldType)) (hXn : ev_n X = 2) (hini : True) (hTb : (ev_c X).exceptionTable.toList = []) : ∀ (x0 : Nat) (s0 : Nat) (s1 : Int32) (h : HS), wb_X9_take_14 cl lm Q E x0 s0 s1 h → GH X G h (hQ X G h0 Q E) 14 [(0, .ref x0)] [.int s1, .ref s0] := by
  have hlm := hCl.2.1
  have hd8 := hCl.2.2.1
  have hd2 : 1 ≤ d2 := Nat.le_trans (by decide) hd8
  have hLa := hCl.2.2.2
  have hd1 : 1 ≤ d2 + 1 := Nat.le_add_left _ _
  have hC9 := hCl
  replace hCl := hCl.1
  intro x0 s0 s1 h hw
  unfold wb_X9_take_14 at hw
  refine gc_X9_42 (pc := 14) (As := [.int s1]) (rest := []) C hCl (Nat.le_refl _) hw rfl rfl (Nat.le_of_ble_eq_true rfl) dX9_take_14 (fun v9 h_1 hp => ?_) (fun q_2 h_3 hw ht9 => ?_)
  rotate_left
  · exact gx_out C S0 (by rw [hTb]; decide) ht9 hw
  clear hw
  obtain ⟨rfl, hw⟩ := hp
  refine GK.at (p2 := 17) rfl ?_
  refine gk_aload_n (pc := 17) C.1 0 dX9_take_17 rfl rfl ?_
  refine gk_dup (pc := 18) C.1 dX9_take_18 rfl ?_
  obtain ⟨ht, hw⟩ := hw
  refine gf_X9_26 (pc := 19) C ht dX9_take_19 ?_
  refine gk_iconst (pc := 22) (v := 1) C.1 dX9_take_22 (by decide) ?_
  refine gk_iadd (pc := 23) C.1 dX9_take_23 ?_
  obtain ⟨ht, hw⟩ := hw
  refine gfp_X9_26 (pc := 24) C ht dX9_take_24 (fun h_4 eh_4 => ?_)
  replace hw := hw h_4 eh_4
  exact gh_vret (pc := 27) C S0 hret dX9_take_27 hw
def wb_X9_take (cl : CT) (lm : Nat × Nat) (Q : QT) (E : ET) (x0 : Nat) (x1 : Int32) (h : HS) : Prop := dp_Reader_here cl x0 [] h (gI (fun r_2 h_1 => ((¬ r_2 = x1 → (wb_X9_take_14 cl lm Q E x0 x0 0 h_1)) ∧ (r_2 = x1 → (wb_X9_take_14 cl lm Q E x0 x0 1 h_1))))) E
theorem wx_X9_take {l : Launch} (hst : l.stackTraces = false) {G : GG} {cl : CT} {lm : Nat × Nat} {Q : QT} {E : ET} {d2 : Nat} (hCl : CallsOK l G d2 cl ∧ hLm G lm ∧ 8 ≤ d2 ∧ LamsOK l G d2 cl) {x0 : Nat} {x1 : Int32} {h : HS} (hw : wb_X9_take cl lm Q E x0 x1 h) : HMet l G yX9_take (ws_ yX9_take cX9_take 2 ((Option.none : Option Jvm.ClassFile.FieldType))) (d2 + 1) [.ref x0, .int x1] h Q E := by
  refine gh_met (own := RX9) rfl (by decide +kernel) hst (by simp only [lg_sl_i, lg_sl_r, lg_sl_a, lg_sl_2, lg_sl_f, lg_sl_0]; decide) (fun X hXl hXn hret hnm hTb h0 eh C S0 => ?_)
  subst hXl
  have hlm := hCl.2.1
  have hd8 := hCl.2.2.1
  have hd2 : 1 ≤ d2 := Nat.le_trans (by decide) hd8
  have hLa := hCl.2.2.2
  have hd1 : 1 ≤ d2 + 1 := Nat.le_add_left _ _
  have hC9 := hCl
  replace hCl := hCl.1
  have hini : True := trivial
  unfold wb_X9_take at hw
  refine GK.sub (lv' := [(0, .ref x0), (1, .int x1)]) [0, 1] (by simp only [lv_args_i, lv_args_r, lv_args_a, lv_args_l, lv_args_f, lv_args_0]; rfl) ?_
  refine gk_aload_n (pc := 0) C.1 0 dX9_take_0 rfl rfl ?_
  refine gk_aload_n (pc := 1) C.1 0 dX9_take_1 rfl rfl ?_
  refine gc_X9_38 (pc := 2) (As := []) (rest := [.ref x0]) C hCl (Nat.le_refl _) hw rfl rfl (Nat.le_of_ble_eq_true rfl) dX9_take_2 (fun v9 h_1 hp => ?_) (fun q_3 h_4 hw ht9 => ?_)
  rotate_left
  · exact gx_out C S0 (by rw [hTb]; decide) ht9 hw
  clear hw
  obtain ⟨r_2, rfl, hw⟩ := hp
  refine GK.at (p2 := 5) rfl ?_
  refine gk_iload_n (pc := 5) C.1 1 dX9_take_5 rfl rfl ?_
  refine gk_icmp_ne (pc := 6) (tgt := 13) C.1 dX9_take_6 (by decide) (fun c_5 => ?_) (fun c_5 => ?_)
  · replace hw := hw.1 c_5
    refine gk_iconst (pc := 13) (v := 0) C.1 dX9_take_13 (by decide) ?_
    refine GK.sub (lv' := [(0, .ref x0)]) [0] rfl ?_
    exact wk_X9_take_14 C hC9 S0 hret hXn hini hTb  _ _ _ _ hw
  · replace hw := hw.2 c_5
    refine gk_iconst (pc := 9) (v := 1) C.1 dX9_take_9 (by decide) ?_
    refine gk_goto (pc := 10) (tgt := 14) C.1 dX9_take_10 (by decide) ?_
    refine GK.sub (lv' := [(0, .ref x0)]) [0] rfl ?_
    exact wk_X9_take_14 C hC9 S0 hret hXn hini hTb  _ _ _ _ hw
/-! 196: GathersAllFaults$Reader.under(II)I -/
def wb_X9_under (cl : CT) (lm : Nat × Nat) (Q : QT) (E : ET) (x0 : Nat) (x1 : Int32) (x2 : Int32) (h : HS) : Prop := ((x1 ≤ 9999 → (Q (some (.int ((10 * x1) + x2))) h)) ∧ (¬ x1 ≤ 9999 → (Q (some (.int x1)) h)))
theorem wx_X9_under {l : Launch} (hst : l.stackTraces = false) {G : GG} {cl : CT} {lm : Nat × Nat} {Q : QT} {E : ET} {d2 : Nat} (hCl : CallsOK l G d2 cl ∧ hLm G lm ∧ 8 ≤ d2 ∧ LamsOK l G d2 cl) {x0 : Nat} {x1 : Int32} {x2 : Int32} {h : HS} (hw : wb_X9_under cl lm Q E x0 x1 x2 h) : HMet l G yX9_under (ws_ yX9_under cX9_under 3 ((Option.some Jvm.ClassFile.FieldType.int))) (d2 + 1) [.ref x0, .int x1, .int x2] h Q E := by
  refine gh_met (own := RX9) rfl (by decide +kernel) hst (by simp only [lg_sl_i, lg_sl_r, lg_sl_a, lg_sl_2, lg_sl_f, lg_sl_0]; decide) (fun X hXl hXn hret hnm hTb h0 eh C S0 => ?_)
  subst hXl
  have hlm := hCl.2.1
  have hd8 := hCl.2.2.1
  have hd2 : 1 ≤ d2 := Nat.le_trans (by decide) hd8
  have hLa := hCl.2.2.2
  have hd1 : 1 ≤ d2 + 1 := Nat.le_add_left _ _
  have hC9 := hCl
  replace hCl := hCl.1
  have hini : True := trivial
  unfold wb_X9_under at hw
  refine GK.sub (lv' := [(0, .ref x0), (1, .int x1), (2, .int x2)]) [0, 1, 2] (by simp only [lv_args_i, lv_args_r, lv_args_a, lv_args_l, lv_args_f, lv_args_0]; rfl) ?_
  refine gk_iload_n (pc := 0) C.1 1 dX9_under_0 rfl rfl ?_
  refine gk_sipush (pc := 1) (v := 9999) C.1 dX9_under_1 (by decide) ?_
  refine gk_icmp_le (pc := 4) (tgt := 11) C.1 dX9_under_4 (by decide) (fun c_1 => ?_) (fun c_1 => ?_)
  · replace hw := hw.1 c_1
    refine gk_bipush (pc := 11) (v := 10) C.1 dX9_under_11 (by decide) ?_
    refine gk_iload_n (pc := 13) C.1 1 dX9_under_13 rfl rfl ?_
    refine gk_imul (pc := 14) C.1 dX9_under_14 ?_
    refine gk_iload_n (pc := 15) C.1 2 dX9_under_15 rfl rfl ?_
    refine gk_iadd (pc := 16) C.1 dX9_under_16 ?_
    exact gh_iret (pc := 17) C S0 hret dX9_under_17 hw
  · replace hw := hw.2 c_1
    refine gk_iload_n (pc := 7) C.1 1 dX9_under_7 rfl rfl ?_
    refine gk_goto (pc := 8) (tgt := 17) C.1 dX9_under_8 (by decide) ?_
    exact gh_iret (pc := 17) C S0 hret dX9_under_17 hw
/-! 197: GathersAllFaults$Reader.value(I)LGathersAllFaults$Value; -/
def wb_X9_value_102 (cl : CT) (lm : Nat × Nat) (Q : QT) (E : ET) (s0 : Nat) (s1 : Nat) (s2 : Int32) (h : HS) : Prop := cl 148 (.ref s1 :: [.int s2]) h (gV (fun h_1 => Q (some (va_rf (some s0))) h_1)) E
theorem wk_X9_value_102 {X : Ev} {G : GG} {cl : CT} {lm : Nat × Nat} {Q : QT} {E : ET} {h0 : HS} {d2 : Nat} (C : HC X G RX9 cX9_value (d2 + 1)) (hCl : CallsOK (ev_l X) G d2 cl ∧ hLm G lm ∧ 8 ≤ d2 ∧ LamsOK (ev_l X) G d2 cl) (S0 : HS0 X h0) (hret : (ev_h X).sig.returnType = (Option.some (Jvm.ClassFile.FieldType.object "GathersAllFaults$Value"))) (hXn : ev_n X = 5) (hini : True) (hTb : (ev_c X).exceptionTable.toList = []) : ∀ (s0 : Nat) (s1 : Nat) (s2 : Int32) (h : HS), wb_X9_value_102 cl lm Q E s0 s1 s2 h → GH X G h (hQ X G h0 Q E) 102 [] [.int s2, .ref s1, .ref s0] := by
  have hlm := hCl.2.1
  have hd8 := hCl.2.2.1
  have hd2 : 1 ≤ d2 := Nat.le_trans (by decide) hd8
  have hLa := hCl.2.2.2
  have hd1 : 1 ≤ d2 + 1 := Nat.le_add_left _ _
  have hC9 := hCl
  replace hCl := hCl.1
  intro s0 s1 s2 h hw
  unfold wb_X9_value_102 at hw
  refine gc_X9_72 (pc := 102) (As := [.int s2]) (rest := [.ref s0]) C hCl (Nat.le_refl _) hw rfl rfl (Nat.le_of_ble_eq_true rfl) dX9_value_102 (fun v9 h_1 hp => ?_) (fun q_2 h_3 hw ht9 => ?_)
  rotate_left
  · exact gx_out C S0 (by rw [hTb]; decide) ht9 hw
  clear hw
  obtain ⟨rfl, hw⟩ := hp
  refine GK.at (p2 := 105) rfl ?_
  exact gh_aret (pc := 105) (r := (some s0)) C S0 hret (Or.inl ⟨_, rfl⟩) dX9_value_105 hw
def wb_X9_value_130 (cl : CT) (lm : Nat × Nat) (Q : QT) (E : ET) (x0 : Nat) (x1 : Int32) (x3 : Int32) (s0 : Nat) (s1 : Int32) (h : HS) : Prop := dp_Reader_mustStand cl s0 [.int s1] h (gV (fun h_1 => (hT h_1 x0 = 15) ∧ ((hT h_1 x0 = 15) ∧ (∀ h_4 : HS, h_4 = sI h_1 49 x0 ((hI h_1 49 x0) + 1) → (((¬ x3 = 63 → (((¬ x3 = 40 → (dp_Reader_list cl x0 [.int x1] h_4 (gR (fun r_8 h_7 => Q (some (va_rf r_8)) h_7)) E)) ∧ (x3 = 40 → (dp_Reader_rec cl x0 [.int x1] h_4 (gR (fun r_12 h_11 => Q (some (va_rf r_12)) h_11)) E))))) ∧ (x3 = 63 → (hZ h_4 + 1 ≤ lm.1 ∧ (hL h_4 + 0 ≤ lm.2 ∧ (∀ (a_16 : Nat) (h_15 : HS), a_16 = hZ h_4 → h_15 = hNew h_4 3 0 0 → (cl 167 (.ref a_16 :: []) h_15 (gV (fun h_17 => Q (some (va_rf (some a_16))) h_17)) E))))))))))) E
theorem wk_X9_value_130 {X : Ev} {G : GG} {cl : CT} {lm : Nat × Nat} {Q : QT} {E : ET} {h0 : HS} {d2 : Nat} (C : HC X G RX9 cX9_value (d2 + 1)) (hCl : CallsOK (ev_l X) G d2 cl ∧ hLm G lm ∧ 8 ≤ d2 ∧ LamsOK (ev_l X) G d2 cl) (S0 : HS0 X h0) (hret : (ev_h X).sig.returnType = (Option.some (Jvm.ClassFile.FieldType.object "GathersAllFaults$Value"))) (hXn : ev_n X = 5) (hini : True) (hTb : (ev_c X).exceptionTable.toList = []) : ∀ (x0 : Nat) (x1 : Int32) (x3 : Int32) (s0 : Nat) (s1 : Int32) (h : HS), wb_X9_value_130 cl lm Q E x0 x1 x3 s0 s1 h → GH X G h (hQ X G h0 Q E) 130 [(0, .ref x0), (1, .int x1), (3, .int x3)] [.int s1, .ref s0] := by
  have hlm := hCl.2.1
  have hd8 := hCl.2.2.1
  have hd2 : 1 ≤ d2 := Nat.le_trans (by decide) hd8
  have hLa := hCl.2.2.2
  have hd1 : 1 ≤ d2 + 1 := Nat.le_add_left _ _
  have hC9 := hCl
  replace hCl := hCl.1
  intro x0 x1 x3 s0 s1 h hw
  unfold wb_X9_value_130 at hw
  refine gc_X9_42 (pc := 130) (As := [.int s1]) (rest := []) C hCl (Nat.le_refl _) hw rfl rfl (Nat.le_of_ble_eq_true rfl) dX9_value_130 (fun v9 h_1 hp => ?_) (fun q_2 h_3 hw ht9 => ?_)
  rotate_left
  · exact gx_out C S0 (by rw [hTb]; decide) ht9 hw
  clear hw
  obtain ⟨rfl, hw⟩ := hp
  refine GK.at (p2 := 133) rfl ?_
  refine gk_aload_n (pc := 133) C.1 0 dX9_value_133 rfl rfl ?_
  refine gk_dup (pc := 134) C.1 dX9_value_134 rfl ?_
  obtain ⟨ht, hw⟩ := hw
  refine gf_X9_26 (pc := 135) C ht dX9_value_135 ?_
  refine gk_iconst (pc := 138) (v := 1) C.1 dX9_value_138 (by decide) ?_
  refine gk_iadd (pc := 139) C.1 dX9_value_139 ?_
  obtain ⟨ht, hw⟩ := hw
  refine gfp_X9_26 (pc := 140) C ht dX9_value_140 (fun h_4 eh_4 => ?_)
  replace hw := hw h_4 eh_4
  refine gk_iload_n (pc := 143) C.1 2 dX9_value_143 rfl rfl ?_
  refine gk_bipush (pc := 144) (v := 63) C.1 dX9_value_144 (by decide) ?_
  refine gk_icmp_ne (pc := 146) (tgt := 159) C.1 dX9_value_146 (by decide) (fun c_5 => ?_) (fun c_5 => ?_)
  · replace hw := hw.1 c_5
    refine gk_iload_n (pc := 159) C.1 2 dX9_value_159 rfl rfl ?_
    refine gk_bipush (pc := 160) (v := 40) C.1 dX9_value_160 (by decide) ?_
    refine gk_icmp_ne (pc := 162) (tgt := 173) C.1 dX9_value_162 (by decide) (fun c_6 => ?_) (fun c_6 => ?_)
    · replace hw := hw.1 c_6
      refine gk_aload_n (pc := 173) C.1 0 dX9_value_173 rfl rfl ?_
      refine gk_iload_n (pc := 174) C.1 1 dX9_value_174 rfl rfl ?_
      refine gc_X9_80 (pc := 175) (As := [.int x1]) (rest := []) C hCl (Nat.le_refl _) hw rfl rfl (Nat.le_of_ble_eq_true rfl) dX9_value_175 (fun v9 h_7 hp => ?_) (fun q_9 h_10 hw ht9 => ?_)
      rotate_left
      · exact gx_out C S0 (by rw [hTb]; decide) ht9 hw
      clear hw
      obtain ⟨r_8, rfl, hw⟩ := hp
      refine GK.at (p2 := 178) rfl ?_
      exact gh_aret (pc := 178) (r := r_8) C S0 hret (Or.inl ⟨_, rfl⟩) dX9_value_178 hw
    · replace hw := hw.2 c_6
      refine gk_aload_n (pc := 165) C.1 0 dX9_value_165 rfl rfl ?_
      refine gk_iload_n (pc := 166) C.1 1 dX9_value_166 rfl rfl ?_
      refine gc_X9_76 (pc := 167) (As := [.int x1]) (rest := []) C hCl (Nat.le_refl _) hw rfl rfl (Nat.le_of_ble_eq_true rfl) dX9_value_167 (fun v9 h_11 hp => ?_) (fun q_13 h_14 hw ht9 => ?_)
      rotate_left
      · exact gx_out C S0 (by rw [hTb]; decide) ht9 hw
      clear hw
      obtain ⟨r_12, rfl, hw⟩ := hp
      refine GK.at (p2 := 170) rfl ?_
      refine gk_goto (pc := 170) (tgt := 178) C.1 dX9_value_170 (by decide) ?_
      exact gh_aret (pc := 178) (r := r_12) C S0 hret (Or.inl ⟨_, rfl⟩) dX9_value_178 hw
  · replace hw := hw.2 c_5
    obtain ⟨hr1, hr2, hw⟩ := hw
    refine gn_X9_73 (pc := 149) C (hlm.1 ▸ hr1) (hlm.2 ▸ hr2) dX9_value_149 (fun h_15 eh_15 => ?_)
    obtain ⟨a_16, ea_16⟩ : ∃ z : Nat, z = hZ h_4 := ⟨_, rfl⟩
    rw [← ea_16]
    replace hw := hw a_16 h_15 ea_16 eh_15
    refine gk_dup (pc := 152) C.1 dX9_value_152 rfl ?_
    refine gc_X9_75 (pc := 153) (As := []) (rest := [.ref a_16]) C hCl (Nat.le_refl _) hw rfl rfl (Nat.le_of_ble_eq_true rfl) dX9_value_153 (fun v9 h_17 hp => ?_) (fun q_18 h_19 hw ht9 => ?_)
    rotate_left
    · exact gx_out C S0 (by rw [hTb]; decide) ht9 hw
    clear hw
    obtain ⟨rfl, hw⟩ := hp
    refine GK.at (p2 := 156) rfl ?_
    refine gk_goto (pc := 156) (tgt := 178) C.1 dX9_value_156 (by decide) ?_
    exact gh_aret (pc := 178) (r := (some a_16)) C S0 hret (Or.inl ⟨_, rfl⟩) dX9_value_178 hw
def wb_X9_value_125 (cl : CT) (lm : Nat × Nat) (Q : QT) (E : ET) (x0 : Nat) (x1 : Int32) (x3 : Int32) (s0 : Nat) (h : HS) : Prop := wb_X9_value_130 cl lm Q E x0 x1 x3 s0 1 h
theorem wk_X9_value_125 {X : Ev} {G : GG} {cl : CT} {lm : Nat × Nat} {Q : QT} {E : ET} {h0 : HS} {d2 : Nat} (C : HC X G RX9 cX9_value (d2 + 1)) (hCl : CallsOK (ev_l X) G d2 cl ∧ hLm G lm ∧ 8 ≤ d2 ∧ LamsOK (ev_l X) G d2 cl) (S0 : HS0 X h0) (hret : (ev_h X).sig.returnType = (Option.some (Jvm.ClassFile.FieldType.object "GathersAllFaults$Value"))) (hXn : ev_n X = 5) (hini : True) (hTb : (ev_c X).exceptionTable.toList = []) : ∀ (x0 : Nat) (x1 : Int32) (x3 : Int32) (s0 : Nat) (h : HS), wb_X9_value_125 cl lm Q E x0 x1 x3 s0 h → GH X G h (hQ X G h0 Q E) 125 [(0, .ref x0), (1, .int x1), (3, .int x3)] [.ref s0] := by
  have hlm := hCl.2.1
  have hd8 := hCl.2.2.1
  have hd2 : 1 ≤ d2 := Nat.le_trans (by decide) hd8
  have hLa := hCl.2.2.2
  have hd1 : 1 ≤ d2 + 1 := Nat.le_add_left _ _
  have hC9 := hCl
  replace hCl := hCl.1
  intro x0 x1 x3 s0 h hw
  unfold wb_X9_value_125 at hw
  refine gk_iconst (pc := 125) (v := 1) C.1 dX9_value_125 (by decide) ?_
  refine gk_goto (pc := 126) (tgt := 130) C.1 dX9_value_126 (by decide) ?_
  refine GK.sub (lv' := [(0, .ref x0), (1, .int x1), (3, .int x3)]) [0, 1, 2] rfl ?_
  exact wk_X9_value_130 C hC9 S0 hret hXn hini hTb  _ _ _ _ _ _ hw
def wb_X9_value_37 (cl : CT) (lm : Nat × Nat) (Q : QT) (E : ET) (x0 : Nat) (x1 : Int32) (x2 : Int32) (s0 : Nat) (s1 : Int32) (h : HS) : Prop := dp_Reader_wrong cl s0 [.int s1, .int x2] h (gV (fun h_1 => dp_Reader_here cl x0 [] h_1 (gI (fun r_5 h_4 => cl 78 [.long ((r_5 : Int32).toInt64), .long 48, .long 57] h_4 (gI (fun r_9 h_8 => ((r_9 = 0 → (((r_5 = 63 → (wb_X9_value_125 cl lm Q E x0 x1 r_5 x0 h_8)) ∧ (¬ r_5 = 63 → (((r_5 = 40 → (wb_X9_value_125 cl lm Q E x0 x1 r_5 x0 h_8)) ∧ (¬ r_5 = 40 → (((¬ r_5 = 91 → (wb_X9_value_130 cl lm Q E x0 x1 r_5 x0 0 h_8)) ∧ (r_5 = 91 → (wb_X9_value_125 cl lm Q E x0 x1 r_5 x0 h_8))))))))))) ∧ (¬ r_9 = 0 → (dp_Reader_digit cl x0 [] h_8 (gI (fun r_17 h_16 => hZ h_16 + 1 ≤ lm.1 ∧ (hL h_16 + 1 ≤ lm.2 ∧ (∀ (a_21 : Nat) (h_20 : HS), a_21 = hZ h_16 → h_20 = hNew h_16 2 0 1 → (dp_Reader_here cl x0 [] h_20 (gI (fun r_23 h_22 => cl 78 [.long ((r_23 : Int32).toInt64), .long 48, .long 57] h_22 (gI (fun r_27 h_26 => ((r_27 = 0 → (wb_X9_value_102 cl lm Q E a_21 a_21 r_17 h_26)) ∧ (¬ r_27 = 0 → (dp_Reader_digit cl x0 [] h_26 (gI (fun r_32 h_31 => wb_X9_value_102 cl lm Q E a_21 a_21 ((10 * r_17) + r_32) h_31)) E))))) E)) E))))) E))))) E)) E)) E
theorem wk_X9_value_37 {X : Ev} {G : GG} {cl : CT} {lm : Nat × Nat} {Q : QT} {E : ET} {h0 : HS} {d2 : Nat} (C : HC X G RX9 cX9_value (d2 + 1)) (hCl : CallsOK (ev_l X) G d2 cl ∧ hLm G lm ∧ 8 ≤ d2 ∧ LamsOK (ev_l X) G d2 cl) (S0 : HS0 X h0) (hret : (ev_h X).sig.returnType = (Option.some (Jvm.ClassFile.FieldType.object "GathersAllFaults$Value"))) (hXn : ev_n X = 5) (hini : True) (hTb : (ev_c X).exceptionTable.toList = []) : ∀ (x0 : Nat) (x1 : Int32) (x2 : Int32) (s0 : Nat) (s1 : Int32) (h : HS), wb_X9_value_37 cl lm Q E x0 x1 x2 s0 s1 h → GH X G h (hQ X G h0 Q E) 37 [(0, .ref x0), (1, .int x1), (2, .int x2)] [.int s1, .ref s0] := by
  have hlm := hCl.2.1
  have hd8 := hCl.2.2.1
  have hd2 : 1 ≤ d2 := Nat.le_trans (by decide) hd8
  have hLa := hCl.2.2.2
  have hd1 : 1 ≤ d2 + 1 := Nat.le_add_left _ _
  have hC9 := hCl
  replace hCl := hCl.1
  intro x0 x1 x2 s0 s1 h hw
  unfold wb_X9_value_37 at hw
  refine gk_iload_n (pc := 37) C.1 2 dX9_value_37 rfl rfl ?_
  refine gc_X9_63 (pc := 38) (As := [.int s1, .int x2]) (rest := []) C hCl (Nat.le_refl _) hw rfl rfl (Nat.le_of_ble_eq_true rfl) dX9_value_38 (fun v9 h_1 hp => ?_) (fun q_2 h_3 hw ht9 => ?_)
  rotate_left
  · exact gx_out C S0 (by rw [hTb]; decide) ht9 hw
  clear hw
  obtain ⟨rfl, hw⟩ := hp
  refine GK.at (p2 := 41) rfl ?_
  refine gk_aload_n (pc := 41) C.1 0 dX9_value_41 rfl rfl ?_
  refine gc_X9_38 (pc := 42) (As := []) (rest := []) C hCl (Nat.le_refl _) hw rfl rfl (Nat.le_of_ble_eq_true rfl) dX9_value_42 (fun v9 h_4 hp => ?_) (fun q_6 h_7 hw ht9 => ?_)
  rotate_left
  · exact gx_out C S0 (by rw [hTb]; decide) ht9 hw
  clear hw
  obtain ⟨r_5, rfl, hw⟩ := hp
  refine GK.at (p2 := 45) rfl ?_
  refine gk_istore_n (pc := 45) (lv' := [(3, Value.int r_5), (0, Value.ref x0), (1, Value.int x1), (2, Value.int x2)]) C.1 dX9_value_45 rfl (by rw [hXn]; decide) (by first | rfl | simp [va_rf_S, va_rf_cat, cat_i, cat_a, cat_l, cat_f, fin4_0, fin4_1, fin4_2, fin4_3]) ?_
  refine gk_iload_n (pc := 46) C.1 0 dX9_value_46 rfl rfl ?_
  refine gk_i2l (pc := 47) C.1 dX9_value_47 ?_
  refine gk_ldc2 (pc := 48) (v := 48) C.1 q463 dX9_value_48 ?_
  refine gk_ldc2 (pc := 51) (v := 57) C.1 q464 dX9_value_51 ?_
  refine gc_X9_50 (pc := 54) (As := [.long ((r_5 : Int32).toInt64), .long 48, .long 57]) (rest := []) C hCl (Nat.le_refl _) hw rfl rfl (Nat.le_of_ble_eq_true rfl) dX9_value_54 (fun v9 h_8 hp => ?_) (fun q_10 h_11 hw ht9 => ?_)
  rotate_left
  · exact gx_out C S0 (by rw [hTb]; decide) ht9 hw
  clear hw
  obtain ⟨r_9, rfl, hw⟩ := hp
  refine GK.at (p2 := 57) rfl ?_
  refine gk_if_eq (pc := 57) (tgt := 106) C.1 dX9_value_57 (by decide) (fun c_12 => ?_) (fun c_12 => ?_)
  · replace hw := hw.1 c_12
    refine gk_aload_n (pc := 106) C.1 1 dX9_value_106 rfl rfl ?_
    refine gk_iload_n (pc := 107) C.1 0 dX9_value_107 rfl rfl ?_
    refine gk_bipush (pc := 108) (v := 63) C.1 dX9_value_108 (by decide) ?_
    refine gk_icmp_eq (pc := 110) (tgt := 125) C.1 dX9_value_110 (by decide) (fun c_13 => ?_) (fun c_13 => ?_)
    · replace hw := hw.1 c_13
      refine GK.sub (lv' := [(0, .ref x0), (1, .int x1), (3, .int r_5)]) [1, 2, 0] rfl ?_
      exact wk_X9_value_125 C hC9 S0 hret hXn hini hTb  _ _ _ _ _ hw
    · replace hw := hw.2 c_13
      refine gk_iload_n (pc := 113) C.1 0 dX9_value_113 rfl rfl ?_
      refine gk_bipush (pc := 114) (v := 40) C.1 dX9_value_114 (by decide) ?_
      refine gk_icmp_eq (pc := 116) (tgt := 125) C.1 dX9_value_116 (by decide) (fun c_14 => ?_) (fun c_14 => ?_)
      · replace hw := hw.1 c_14
        refine GK.sub (lv' := [(0, .ref x0), (1, .int x1), (3, .int r_5)]) [1, 2, 0] rfl ?_
        exact wk_X9_value_125 C hC9 S0 hret hXn hini hTb  _ _ _ _ _ hw
      · replace hw := hw.2 c_14
        refine gk_iload_n (pc := 119) C.1 0 dX9_value_119 rfl rfl ?_
        refine gk_bipush (pc := 120) (v := 91) C.1 dX9_value_120 (by decide) ?_
        refine gk_icmp_ne (pc := 122) (tgt := 129) C.1 dX9_value_122 (by decide) (fun c_15 => ?_) (fun c_15 => ?_)
        · replace hw := hw.1 c_15
          refine gk_iconst (pc := 129) (v := 0) C.1 dX9_value_129 (by decide) ?_
          refine GK.sub (lv' := [(0, .ref x0), (1, .int x1), (3, .int r_5)]) [1, 2, 0] rfl ?_
          exact wk_X9_value_130 C hC9 S0 hret hXn hini hTb  _ _ _ _ _ _ hw
        · replace hw := hw.2 c_15
          refine GK.sub (lv' := [(0, .ref x0), (1, .int x1), (3, .int r_5)]) [1, 2, 0] rfl ?_
          exact wk_X9_value_125 C hC9 S0 hret hXn hini hTb  _ _ _ _ _ hw
  · replace hw := hw.2 c_12
    refine gk_aload_n (pc := 60) C.1 1 dX9_value_60 rfl rfl ?_
    refine gc_X9_67 (pc := 61) (As := []) (rest := []) C hCl (Nat.le_refl _) hw rfl rfl (Nat.le_of_ble_eq_true rfl) dX9_value_61 (fun v9 h_16 hp => ?_) (fun q_18 h_19 hw ht9 => ?_)
    rotate_left
    · exact gx_out C S0 (by rw [hTb]; decide) ht9 hw
    clear hw
    obtain ⟨r_17, rfl, hw⟩ := hp
    refine GK.at (p2 := 64) rfl ?_
    refine gk_istore (pc := 64) (lv' := [(4, Value.int r_17), (3, Value.int r_5), (0, Value.ref x0), (1, Value.int x1), (2, Value.int x2)]) C.1 dX9_value_64 (by rw [hXn]; decide) (by first | rfl | simp [va_rf_S, va_rf_cat, cat_i, cat_a, cat_l, cat_f, fin4_0, fin4_1, fin4_2, fin4_3]) ?_
    obtain ⟨hr1, hr2, hw⟩ := hw
    refine gn_X9_70 (pc := 66) C (hlm.1 ▸ hr1) (hlm.2 ▸ hr2) dX9_value_66 (fun h_20 eh_20 => ?_)
    obtain ⟨a_21, ea_21⟩ : ∃ z : Nat, z = hZ h_16 := ⟨_, rfl⟩
    rw [← ea_21]
    replace hw := hw a_21 h_20 ea_21 eh_20
    refine gk_dup (pc := 69) C.1 dX9_value_69 rfl ?_
    refine gk_aload_n (pc := 70) C.1 2 dX9_value_70 rfl rfl ?_
    refine gc_X9_38 (pc := 71) (As := []) (rest := [.ref a_21, .ref a_21]) C hCl (Nat.le_refl _) hw rfl rfl (Nat.le_of_ble_eq_true rfl) dX9_value_71 (fun v9 h_22 hp => ?_) (fun q_24 h_25 hw ht9 => ?_)
    rotate_left
    · exact gx_out C S0 (by rw [hTb]; decide) ht9 hw
    clear hw
    obtain ⟨r_23, rfl, hw⟩ := hp
    refine GK.at (p2 := 74) rfl ?_
    refine gk_i2l (pc := 74) C.1 dX9_value_74 ?_
    refine gk_ldc2 (pc := 75) (v := 48) C.1 q463 dX9_value_75 ?_
    refine gk_ldc2 (pc := 78) (v := 57) C.1 q464 dX9_value_78 ?_
    refine gc_X9_50 (pc := 81) (As := [.long ((r_23 : Int32).toInt64), .long 48, .long 57]) (rest := [.ref a_21, .ref a_21]) C hCl (Nat.le_refl _) hw rfl rfl (Nat.le_of_ble_eq_true rfl) dX9_value_81 (fun v9 h_26 hp => ?_) (fun q_28 h_29 hw ht9 => ?_)
    rotate_left
    · exact gx_out C S0 (by rw [hTb]; decide) ht9 hw
    clear hw
    obtain ⟨r_27, rfl, hw⟩ := hp
    refine GK.at (p2 := 84) rfl ?_
    refine gk_if_eq (pc := 84) (tgt := 100) C.1 dX9_value_84 (by decide) (fun c_30 => ?_) (fun c_30 => ?_)
    · replace hw := hw.1 c_30
      refine gk_iload (pc := 100) C.1 0 dX9_value_100 rfl ?_
      refine GK.sub (lv' := []) [] rfl ?_
      exact wk_X9_value_102 C hC9 S0 hret hXn hini hTb  _ _ _ _ hw
    · replace hw := hw.2 c_30
      refine gk_bipush (pc := 87) (v := 10) C.1 dX9_value_87 (by decide) ?_
      refine gk_iload (pc := 89) C.1 0 dX9_value_89 rfl ?_
      refine gk_imul (pc := 91) C.1 dX9_value_91 ?_
      refine gk_aload_n (pc := 92) C.1 2 dX9_value_92 rfl rfl ?_
      refine gc_X9_67 (pc := 93) (As := []) (rest := [.int (10 * r_17), .ref a_21, .ref a_21]) C hCl (Nat.le_refl _) hw rfl rfl (Nat.le_of_ble_eq_true rfl) dX9_value_93 (fun v9 h_31 hp => ?_) (fun q_33 h_34 hw ht9 => ?_)
      rotate_left
      · exact gx_out C S0 (by rw [hTb]; decide) ht9 hw
      clear hw
      obtain ⟨r_32, rfl, hw⟩ := hp
      refine GK.at (p2 := 96) rfl ?_
      refine gk_iadd (pc := 96) C.1 dX9_value_96 ?_
      refine gk_goto (pc := 97) (tgt := 102) C.1 dX9_value_97 (by decide) ?_
      refine GK.sub (lv' := []) [] rfl ?_
      exact wk_X9_value_102 C hC9 S0 hret hXn hini hTb  _ _ _ _ hw
def wb_X9_value_32 (cl : CT) (lm : Nat × Nat) (Q : QT) (E : ET) (x0 : Nat) (x1 : Int32) (x2 : Int32) (s0 : Nat) (h : HS) : Prop := wb_X9_value_37 cl lm Q E x0 x1 x2 s0 1 h
theorem wk_X9_value_32 {X : Ev} {G : GG} {cl : CT} {lm : Nat × Nat} {Q : QT} {E : ET} {h0 : HS} {d2 : Nat} (C : HC X G RX9 cX9_value (d2 + 1)) (hCl : CallsOK (ev_l X) G d2 cl ∧ hLm G lm ∧ 8 ≤ d2 ∧ LamsOK (ev_l X) G d2 cl) (S0 : HS0 X h0) (hret : (ev_h X).sig.returnType = (Option.some (Jvm.ClassFile.FieldType.object "GathersAllFaults$Value"))) (hXn : ev_n X = 5) (hini : True) (hTb : (ev_c X).exceptionTable.toList = []) : ∀ (x0 : Nat) (x1 : Int32) (x2 : Int32) (s0 : Nat) (h : HS), wb_X9_value_32 cl lm Q E x0 x1 x2 s0 h → GH X G h (hQ X G h0 Q E) 32 [(0, .ref x0), (1, .int x1), (2, .int x2)] [.ref s0] := by
  have hlm := hCl.2.1
  have hd8 := hCl.2.2.1
  have hd2 : 1 ≤ d2 := Nat.le_trans (by decide) hd8
  have hLa := hCl.2.2.2
  have hd1 : 1 ≤ d2 + 1 := Nat.le_add_left _ _
  have hC9 := hCl
  replace hCl := hCl.1
  intro x0 x1 x2 s0 h hw
  unfold wb_X9_value_32 at hw
  refine gk_iconst (pc := 32) (v := 1) C.1 dX9_value_32 (by decide) ?_
  refine gk_goto (pc := 33) (tgt := 37) C.1 dX9_value_33 (by decide) ?_
  refine GK.sub (lv' := [(0, .ref x0), (1, .int x1), (2, .int x2)]) [0, 1, 2] rfl ?_
  exact wk_X9_value_37 C hC9 S0 hret hXn hini hTb  _ _ _ _ _ _ hw
def wb_X9_value (cl : CT) (lm : Nat × Nat) (Q : QT) (E : ET) (x0 : Nat) (x1 : Int32) (h : HS) : Prop := (hT h x0 = 15) ∧ (∀ x_1 : Int32, x_1 = hI h 49 x0 → ((hT h x0 = 15) ∧ ((hT h x0 = 15) ∧ (∀ h_2 : HS, h_2 = sI h 50 x0 ((hI h 50 x0) + 1) → ((hT h_2 x0 = 15) ∧ (((20 < (hI h_2 50 x0) → (wb_X9_value_32 cl lm Q E x0 x1 x_1 x0 h_2)) ∧ (¬ 20 < (hI h_2 50 x0) → (((x1 ≤ 9999 → (wb_X9_value_37 cl lm Q E x0 x1 x_1 x0 0 h_2)) ∧ (¬ x1 ≤ 9999 → (wb_X9_value_32 cl lm Q E x0 x1 x_1 x0 h_2))))))))))))
theorem wx_X9_value {l : Launch} (hst : l.stackTraces = false) {G : GG} {cl : CT} {lm : Nat × Nat} {Q : QT} {E : ET} {d2 : Nat} (hCl : CallsOK l G d2 cl ∧ hLm G lm ∧ 8 ≤ d2 ∧ LamsOK l G d2 cl) {x0 : Nat} {x1 : Int32} {h : HS} (hw : wb_X9_value cl lm Q E x0 x1 h) : HMet l G yX9_value (ws_ yX9_value cX9_value 5 ((Option.some (Jvm.ClassFile.FieldType.object "GathersAllFaults$Value")))) (d2 + 1) [.ref x0, .int x1] h Q E := by
  refine gh_met (own := RX9) rfl (by decide +kernel) hst (by simp only [lg_sl_i, lg_sl_r, lg_sl_a, lg_sl_2, lg_sl_f, lg_sl_0]; decide) (fun X hXl hXn hret hnm hTb h0 eh C S0 => ?_)
  subst hXl
  have hlm := hCl.2.1
  have hd8 := hCl.2.2.1
  have hd2 : 1 ≤ d2 := Nat.le_trans (by decide) hd8
  have hLa := hCl.2.2.2
  have hd1 : 1 ≤ d2 + 1 := Nat.le_add_left _ _
  have hC9 := hCl
  replace hCl := hCl.1
  have hini : True := trivial
  unfold wb_X9_value at hw
  refine GK.sub (lv' := [(0, .ref x0), (1, .int x1)]) [0, 1] (by simp only [lv_args_i, lv_args_r, lv_args_a, lv_args_l, lv_args_f, lv_args_0]; rfl) ?_
  refine gk_aload_n (pc := 0) C.1 0 dX9_value_0 rfl rfl ?_
  obtain ⟨ht, hw⟩ := hw
  refine gf_X9_26 (pc := 1) C ht dX9_value_1 ?_
  obtain ⟨x_1, ex_1⟩ : ∃ z : Int32, z = hI h 49 x0 := ⟨_, rfl⟩
  rw [← ex_1]
  replace hw := hw x_1 ex_1
  refine gk_istore_n (pc := 4) (lv' := [(2, Value.int x_1), (0, Value.ref x0), (1, Value.int x1)]) C.1 dX9_value_4 rfl (by rw [hXn]; decide) (by first | rfl | simp [va_rf_S, va_rf_cat, cat_i, cat_a, cat_l, cat_f, fin4_0, fin4_1, fin4_2, fin4_3]) ?_
  refine gk_aload_n (pc := 5) C.1 1 dX9_value_5 rfl rfl ?_
  refine gk_dup (pc := 6) C.1 dX9_value_6 rfl ?_
  obtain ⟨ht, hw⟩ := hw
  refine gf_X9_60 (pc := 7) C ht dX9_value_7 ?_
  refine gk_iconst (pc := 10) (v := 1) C.1 dX9_value_10 (by decide) ?_
  refine gk_iadd (pc := 11) C.1 dX9_value_11 ?_
  obtain ⟨ht, hw⟩ := hw
  refine gfp_X9_60 (pc := 12) C ht dX9_value_12 (fun h_2 eh_2 => ?_)
  replace hw := hw h_2 eh_2
  refine gk_aload_n (pc := 15) C.1 1 dX9_value_15 rfl rfl ?_
  refine gk_aload_n (pc := 16) C.1 1 dX9_value_16 rfl rfl ?_
  obtain ⟨ht, hw⟩ := hw
  refine gf_X9_60 (pc := 17) C ht dX9_value_17 ?_
  refine gk_bipush (pc := 20) (v := 20) C.1 dX9_value_20 (by decide) ?_
  refine gk_icmp_gt (pc := 22) (tgt := 32) C.1 dX9_value_22 (by decide) (fun c_3 => ?_) (fun c_3 => ?_)
  · replace hw := hw.1 c_3
    refine GK.sub (lv' := [(0, .ref x0), (1, .int x1), (2, .int x_1)]) [1, 2, 0] rfl ?_
    exact wk_X9_value_32 C hC9 S0 hret hXn hini hTb  _ _ _ _ _ hw
  · replace hw := hw.2 c_3
    refine gk_iload_n (pc := 25) C.1 2 dX9_value_25 rfl rfl ?_
    refine gk_sipush (pc := 26) (v := 9999) C.1 dX9_value_26 (by decide) ?_
    refine gk_icmp_le (pc := 29) (tgt := 36) C.1 dX9_value_29 (by decide) (fun c_4 => ?_) (fun c_4 => ?_)
    · replace hw := hw.1 c_4
      refine gk_iconst (pc := 36) (v := 0) C.1 dX9_value_36 (by decide) ?_
      refine GK.sub (lv' := [(0, .ref x0), (1, .int x1), (2, .int x_1)]) [1, 2, 0] rfl ?_
      exact wk_X9_value_37 C hC9 S0 hret hXn hini hTb  _ _ _ _ _ _ hw
    · replace hw := hw.2 c_4
      refine GK.sub (lv' := [(0, .ref x0), (1, .int x1), (2, .int x_1)]) [1, 2, 0] rfl ?_
      exact wk_X9_value_32 C hC9 S0 hret hXn hini hTb  _ _ _ _ _ hw
/-! 198: GathersAllFaults$Reader.wrong(ZI)V -/
def wb_X9_wrong_20 (cl : CT) (lm : Nat × Nat) (Q : QT) (E : ET) (s0 : Nat) (s1 : Int32) (h : HS) : Prop := (hT h s0 = 15) ∧ (∀ h_1 : HS, h_1 = sI h 53 s0 s1 → (Q none h_1))
theorem wk_X9_wrong_20 {X : Ev} {G : GG} {cl : CT} {lm : Nat × Nat} {Q : QT} {E : ET} {h0 : HS} {d2 : Nat} (C : HC X G RX9 cX9_wrong (d2 + 1)) (hCl : CallsOK (ev_l X) G d2 cl ∧ hLm G lm ∧ 8 ≤ d2 ∧ LamsOK (ev_l X) G d2 cl) (S0 : HS0 X h0) (hret : (ev_h X).sig.returnType = (Option.none : Option Jvm.ClassFile.FieldType)) (hXn : ev_n X = 3) (hini : True) (hTb : (ev_c X).exceptionTable.toList = []) : ∀ (s0 : Nat) (s1 : Int32) (h : HS), wb_X9_wrong_20 cl lm Q E s0 s1 h → GH X G h (hQ X G h0 Q E) 20 [] [.int s1, .ref s0] := by
  have hlm := hCl.2.1
  have hd8 := hCl.2.2.1
  have hd2 : 1 ≤ d2 := Nat.le_trans (by decide) hd8
  have hLa := hCl.2.2.2
  have hd1 : 1 ≤ d2 + 1 := Nat.le_add_left _ _
  have hC9 := hCl
  replace hCl := hCl.1
  intro s0 s1 h hw
  unfold wb_X9_wrong_20 at hw
  obtain ⟨ht, hw⟩ := hw
  refine gfp_X9_23 (pc := 20) C ht dX9_wrong_20 (fun h_1 eh_1 => ?_)
  replace hw := hw h_1 eh_1
  exact gh_vret (pc := 23) C S0 hret dX9_wrong_23 hw
def wb_X9_wrong (cl : CT) (lm : Nat × Nat) (Q : QT) (E : ET) (x0 : Nat) (x1 : Int32) (x2 : Int32) (h : HS) : Prop := ((x1 = 0 → ((hT h x0 = 15) ∧ (wb_X9_wrong_20 cl lm Q E x0 (hI h 53 x0) h))) ∧ (¬ x1 = 0 → ((hT h x0 = 15) ∧ (wb_X9_wrong_20 cl lm Q E x0 (if x2 < (hI h 53 x0) then x2 else (hI h 53 x0)) h))))
theorem wx_X9_wrong {l : Launch} (hst : l.stackTraces = false) {G : GG} {cl : CT} {lm : Nat × Nat} {Q : QT} {E : ET} {d2 : Nat} (hCl : CallsOK l G d2 cl ∧ hLm G lm ∧ 8 ≤ d2 ∧ LamsOK l G d2 cl) {x0 : Nat} {x1 : Int32} {x2 : Int32} {h : HS} (hw : wb_X9_wrong cl lm Q E x0 x1 x2 h) : HMet l G yX9_wrong (ws_ yX9_wrong cX9_wrong 3 ((Option.none : Option Jvm.ClassFile.FieldType))) (d2 + 1) [.ref x0, .int x1, .int x2] h Q E := by
  refine gh_met (own := RX9) rfl (by decide +kernel) hst (by simp only [lg_sl_i, lg_sl_r, lg_sl_a, lg_sl_2, lg_sl_f, lg_sl_0]; decide) (fun X hXl hXn hret hnm hTb h0 eh C S0 => ?_)
  subst hXl
  have hlm := hCl.2.1
  have hd8 := hCl.2.2.1
  have hd2 : 1 ≤ d2 := Nat.le_trans (by decide) hd8
  have hLa := hCl.2.2.2
  have hd1 : 1 ≤ d2 + 1 := Nat.le_add_left _ _
  have hC9 := hCl
  replace hCl := hCl.1
  have hini : True := trivial
  unfold wb_X9_wrong at hw
  refine GK.sub (lv' := [(0, .ref x0), (1, .int x1), (2, .int x2)]) [0, 1, 2] (by simp only [lv_args_i, lv_args_r, lv_args_a, lv_args_l, lv_args_f, lv_args_0]; rfl) ?_
  refine gk_aload_n (pc := 0) C.1 0 dX9_wrong_0 rfl rfl ?_
  refine gk_iload_n (pc := 1) C.1 1 dX9_wrong_1 rfl rfl ?_
  refine gk_if_eq (pc := 2) (tgt := 16) C.1 dX9_wrong_2 (by decide) (fun c_1 => ?_) (fun c_1 => ?_)
  · replace hw := hw.1 c_1
    refine gk_aload_n (pc := 16) C.1 0 dX9_wrong_16 rfl rfl ?_
    obtain ⟨ht, hw⟩ := hw
    refine gf_X9_23 (pc := 17) C ht dX9_wrong_17 ?_
    refine GK.sub (lv' := []) [] rfl ?_
    exact wk_X9_wrong_20 C hC9 S0 hret hXn hini hTb  _ _ _ hw
  · replace hw := hw.2 c_1
    refine gk_aload_n (pc := 5) C.1 0 dX9_wrong_5 rfl rfl ?_
    obtain ⟨ht, hw⟩ := hw
    refine gf_X9_23 (pc := 6) C ht dX9_wrong_6 ?_
    refine gk_iload_n (pc := 9) C.1 2 dX9_wrong_9 rfl rfl ?_
    refine gh_mmin (pc := 10) C hd1 q456 (Nat.le_of_ble_eq_true rfl) dX9_wrong_10 ?_
    refine gk_goto (pc := 13) (tgt := 20) C.1 dX9_wrong_13 (by decide) ?_
    refine GK.sub (lv' := []) [] rfl ?_
    exact wk_X9_wrong_20 C hC9 S0 hret hXn hini hTb  _ _ _ hw
/-! 199: GathersAllFaults$Fault.<init>(I)V -/
def wb_X10_init (cl : CT) (lm : Nat × Nat) (Q : QT) (E : ET) (x0 : Nat) (x1 : Int32) (h : HS) : Prop := hT h x0 = 17 ∧ (hI h 98 x0 = 0 ∧ (∀ h_1 : HS, h_1 = sI h 98 x0 1 → ((hT h_1 x0 = 17) ∧ (hI h_1 98 x0 = 1 ∧ (∀ h_2 : HS, h_2 = sI h_1 56 x0 x1 → (Q none h_2))))))
theorem wx_X10_init {l : Launch} (hst : l.stackTraces = false) {G : GG} {cl : CT} {lm : Nat × Nat} {Q : QT} {E : ET} {d2 : Nat} (hCl : CallsOK l G d2 cl ∧ hLm G lm ∧ 8 ≤ d2 ∧ LamsOK l G d2 cl) {x0 : Nat} {x1 : Int32} {h : HS} (hw : wb_X10_init cl lm Q E x0 x1 h) : HMet l G yX10_init (ws_ yX10_init cX10_init 2 ((Option.none : Option Jvm.ClassFile.FieldType))) (d2 + 1) [.ref x0, .int x1] h Q E := by
  refine gh_met (own := RX10) rfl (by decide +kernel) hst (by simp only [lg_sl_i, lg_sl_r, lg_sl_a, lg_sl_2, lg_sl_f, lg_sl_0]; decide) (fun X hXl hXn hret hnm hTb h0 eh C S0 => ?_)
  subst hXl
  have hlm := hCl.2.1
  have hd8 := hCl.2.2.1
  have hd2 : 1 ≤ d2 := Nat.le_trans (by decide) hd8
  have hLa := hCl.2.2.2
  have hd1 : 1 ≤ d2 + 1 := Nat.le_add_left _ _
  have hC9 := hCl
  replace hCl := hCl.1
  have hini : (ev_h X).name = "<init>" := hnm.1
  unfold wb_X10_init at hw
  refine GK.sub (lv' := [(0, .ref x0), (1, .int x1)]) [0, 1] (by simp only [lv_args_i, lv_args_r, lv_args_a, lv_args_l, lv_args_f, lv_args_0]; rfl) ?_
  refine gk_aload_n (pc := 0) C.1 0 dX10_init_0 rfl rfl ?_
  obtain ⟨ht, hfr, hw⟩ := hw
  refine gh_supX10 C ht hfr hd8 (Nat.le_of_ble_eq_true rfl) dX10_init_1 (fun h_1 eh_1 => ?_)
  replace hw := hw h_1 eh_1
  refine gk_aload_n (pc := 4) C.1 0 dX10_init_4 rfl rfl ?_
  refine gk_iload_n (pc := 5) C.1 1 dX10_init_5 rfl rfl ?_
  obtain ⟨ht, hw⟩ := hw
  obtain ⟨hfr, hw⟩ := hw
  refine gfp_X10_7 (pc := 6) C hini hfr ht dX10_init_6 (fun h_2 eh_2 => ?_)
  replace hw := hw h_2 eh_2
  exact gh_vret (pc := 9) C S0 hret dX10_init_9 hw
