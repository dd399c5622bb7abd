set_option maxRecDepth 100000
/-! 140: GathersAllFaults.whichTold(I)I -/
def wb_X0_whichTold_37 (cl : CT) (lm : Nat × Nat) (Q : QT) (E : ET) (J10 : Nat → Int32 → Int32 → Int32 → HS → Prop) (x0 : Nat) (x1 : Int32) (x3 : Int32) (s0 : Int32) (s1 : Int32) (h : HS) : Prop := ∀ x_1 : Int32, x_1 = s0 ||| s1 → (∀ x_2 : Int32, x_2 = x3 + 1 → (J10 x0 x1 x_1 x_2 h))
theorem wk_X0_whichTold_37 {X : Ev} {G : GG} {cl : CT} {lm : Nat × Nat} {Q : QT} {E : ET} {h0 : HS} {d2 : Nat} {J10 : Nat → Int32 → Int32 → Int32 → HS → Prop} (C : HC X G RX0 cX0_whichTold (d2 + 1)) (hCl : CallsOK (ev_l X) G d2 cl ∧ hLm G lm ∧ 8 ≤ d2 ∧ LamsOK (ev_l X) G d2 cl) (S0 : HS0 X h0) (hret : (ev_h X).sig.returnType = (Option.some Jvm.ClassFile.FieldType.int)) (hXn : ev_n X = 4) (hini : True) (hTb : (ev_c X).exceptionTable.toList = []) (hJ10 : ∀ (x0 : Nat) (x1 : Int32) (x2 : Int32) (x3 : Int32) (h : HS), J10 x0 x1 x2 x3 h → GH X G h (hQ X G h0 Q E) 10 [(0, .ref x0), (1, .int x1), (2, .int x2), (3, .int x3)] []) : ∀ (x0 : Nat) (x1 : Int32) (x3 : Int32) (s0 : Int32) (s1 : Int32) (h : HS), wb_X0_whichTold_37 cl lm Q E J10 x0 x1 x3 s0 s1 h → GH X G h (hQ X G h0 Q E) 37 [(0, .ref x0), (1, .int x1), (3, .int x3)] [.int s1, .int s0] := by
  have hlm := hCl.2.1
  have hd8 := hCl.2.2.1
  have hd2 : 1 ≤ d2 := Nat.le_trans (by decide) hd8
  have hLa := hCl.2.2.2
  have hd1 : 1 ≤ d2 + 1 := Nat.le_add_left _ _
  have hC9 := hCl
  replace hCl := hCl.1
  intro x0 x1 x3 s0 s1 h hw
  unfold wb_X0_whichTold_37 at hw
  refine gk_ior (pc := 37) C.1 dX0_whichTold_37 ?_
  obtain ⟨x_1, ex_1⟩ : ∃ z : Int32, z = s0 ||| s1 := ⟨_, rfl⟩
  rw [← ex_1]
  replace hw := hw x_1 ex_1
  refine gk_istore_n (pc := 38) (lv' := [(2, Value.int x_1), (0, Value.ref x0), (1, Value.int x1), (3, Value.int x3)]) C.1 dX0_whichTold_38 rfl (by rw [hXn]; decide) (by first | rfl | simp [va_rf_S, va_rf_cat, cat_i, cat_a, cat_l, cat_f, fin4_0, fin4_1, fin4_2, fin4_3]) ?_
  obtain ⟨x_2, ex_2⟩ : ∃ z : Int32, z = x3 + 1 := ⟨_, rfl⟩
  replace hw := hw x_2 ex_2
  refine gk_iinc (pc := 39) (v := x_2) (lv' := [(3, Value.int x_2), (2, Value.int x_1), (0, Value.ref x0), (1, Value.int x1)]) C.1 3 dX0_whichTold_39 rfl (by rw [ex_2]; rfl) (by rw [hXn]; decide) (by first | rfl | simp [va_rf_S, va_rf_cat, cat_i, cat_a, cat_l, cat_f, fin4_0, fin4_1, fin4_2, fin4_3]) ?_
  refine gk_goto (pc := 42) (tgt := 10) C.1 dX0_whichTold_42 (by decide) ?_
  refine GK.sub (lv' := [(0, .ref x0), (1, .int x1), (2, .int x_1), (3, .int x_2)]) [2, 3, 1, 0] rfl ?_
  exact hJ10 _ _ _ _ _ hw
def wb_X0_whichTold_10 (cl : CT) (lm : Nat × Nat) (Q : QT) (E : ET) : Nat → Nat → Int32 → Int32 → Int32 → HS → Prop
  | 0 => fun _ _ _ _ _ => False
  | n + 1 => fun x0 x1 x2 x3 h => ((16 ≤ x3 → (Q (some (.int x2)) h)) ∧ (¬ 16 ≤ x3 → (dp_GathersAllFaults_findingWith cl x0 [.int x1, .int x3] h (gR (fun r_3 h_2 => dp_GathersAllFaults_isRowOf cl x0 [va_rf r_3] h_2 (gI (fun r_7 h_6 => ((r_7 = 0 → (wb_X0_whichTold_37 cl lm Q E (fun yx0 yx1 yx2 yx3 yh => wb_X0_whichTold_10 cl lm Q E n yx0 yx1 yx2 yx3 yh) x0 x1 x3 x2 0 h_6)) ∧ (¬ r_7 = 0 → (wb_X0_whichTold_37 cl lm Q E (fun yx0 yx1 yx2 yx3 yh => wb_X0_whichTold_10 cl lm Q E n yx0 yx1 yx2 yx3 yh) x0 x1 x3 x2 (1 <<< (x3 &&& 31)) h_6))))) E)) E)))
theorem wk_X0_whichTold_10 {X : Ev} {G : GG} {cl : CT} {lm : Nat × Nat} {Q : QT} {E : ET} {h0 : HS} {d2 : Nat} (C : HC X G RX0 cX0_whichTold (d2 + 1)) (hCl : CallsOK (ev_l X) G d2 cl ∧ hLm G lm ∧ 8 ≤ d2 ∧ LamsOK (ev_l X) G d2 cl) (S0 : HS0 X h0) (hret : (ev_h X).sig.returnType = (Option.some Jvm.ClassFile.FieldType.int)) (hXn : ev_n X = 4) (hini : True) (hTb : (ev_c X).exceptionTable.toList = []) : ∀ (n : Nat) (x0 : Nat) (x1 : Int32) (x2 : Int32) (x3 : Int32) (h : HS), wb_X0_whichTold_10 cl lm Q E n x0 x1 x2 x3 h → GH X G h (hQ X G h0 Q E) 10 [(0, .ref x0), (1, .int x1), (2, .int x2), (3, .int x3)] [] := by
  have hlm := hCl.2.1
  have hd8 := hCl.2.2.1
  have hd2 : 1 ≤ d2 := Nat.le_trans (by decide) hd8
  have hLa := hCl.2.2.2
  have hd1 : 1 ≤ d2 + 1 := Nat.le_add_left _ _
  have hC9 := hCl
  replace hCl := hCl.1
  intro n
  induction n with
  | zero => intro x0 x1 x2 x3 h hw; exact hw.elim
  | succ n ih =>
  intro x0 x1 x2 x3 h hw
  unfold wb_X0_whichTold_10 at hw
  refine gk_iload_n (pc := 10) C.1 3 dX0_whichTold_10 rfl rfl ?_
  refine gk_bipush (pc := 11) (v := 16) C.1 dX0_whichTold_11 (by decide) ?_
  refine gk_icmp_ge (pc := 13) (tgt := 45) C.1 dX0_whichTold_13 (by decide) (fun c_1 => ?_) (fun c_1 => ?_)
  · replace hw := hw.1 c_1
    refine gk_iload_n (pc := 45) C.1 2 dX0_whichTold_45 rfl rfl ?_
    exact gh_iret (pc := 46) C S0 hret dX0_whichTold_46 hw
  · replace hw := hw.2 c_1
    refine gk_iload_n (pc := 16) C.1 2 dX0_whichTold_16 rfl rfl ?_
    refine gk_aload_n (pc := 17) C.1 0 dX0_whichTold_17 rfl rfl ?_
    refine gk_aload_n (pc := 18) C.1 0 dX0_whichTold_18 rfl rfl ?_
    refine gk_iload_n (pc := 19) C.1 1 dX0_whichTold_19 rfl rfl ?_
    refine gk_iload_n (pc := 20) C.1 3 dX0_whichTold_20 rfl rfl ?_
    refine gc_X0_282 (pc := 21) (As := [.int x1, .int x3]) (rest := [.ref x0, .int x2]) C hCl (Nat.le_refl _) hw rfl rfl (Nat.le_of_ble_eq_true rfl) dX0_whichTold_21 (fun v9 h_2 hp => ?_) (fun q_4 h_5 hw ht9 => ?_)
    rotate_left
    · exact gx_out C S0 (by rw [hTb]; decide) ht9 hw
    clear hw
    obtain ⟨r_3, rfl, hw⟩ := hp
    refine GK.at (p2 := 24) rfl ?_
    refine gc_X0_304 (pc := 24) (As := [va_rf r_3]) (rest := [.int x2]) C hCl (Nat.le_refl _) hw rfl rfl (Nat.le_of_ble_eq_true rfl) dX0_whichTold_24 (fun v9 h_6 hp => ?_) (fun q_8 h_9 hw ht9 => ?_)
    rotate_left
    · exact gx_out C S0 (by rw [hTb]; decide) ht9 hw
    clear hw
    obtain ⟨r_7, rfl, hw⟩ := hp
    refine GK.at (p2 := 27) rfl ?_
    refine gk_if_eq (pc := 27) (tgt := 36) C.1 dX0_whichTold_27 (by decide) (fun c_10 => ?_) (fun c_10 => ?_)
    · replace hw := hw.1 c_10
      refine gk_iconst (pc := 36) (v := 0) C.1 dX0_whichTold_36 (by decide) ?_
      refine GK.sub (lv' := [(0, .ref x0), (1, .int x1), (3, .int x3)]) [0, 1, 3] rfl ?_
      exact wk_X0_whichTold_37 C hC9 S0 hret hXn hini hTb ih _ _ _ _ _ _ hw
    · replace hw := hw.2 c_10
      refine gk_iconst (pc := 30) (v := 1) C.1 dX0_whichTold_30 (by decide) ?_
      refine gk_iload_n (pc := 31) C.1 3 dX0_whichTold_31 rfl rfl ?_
      refine gk_ishl (pc := 32) C.1 dX0_whichTold_32 ?_
      refine gk_goto (pc := 33) (tgt := 37) C.1 dX0_whichTold_33 (by decide) ?_
      refine GK.sub (lv' := [(0, .ref x0), (1, .int x1), (3, .int x3)]) [0, 1, 3] rfl ?_
      exact wk_X0_whichTold_37 C hC9 S0 hret hXn hini hTb ih _ _ _ _ _ _ hw
def wb_X0_whichTold (cl : CT) (lm : Nat × Nat) (Q : QT) (E : ET) (x0 : Nat) (x1 : Int32) (h : HS) : Prop := dp_GathersAllFaults_at cl x0 [.int x1] h (gR (fun r_2 h_1 => ∃ fu : Nat, wb_X0_whichTold_10 cl lm Q E fu x0 x1 0 0 h_1)) E
theorem wx_X0_whichTold {l : Launch} (hst : l.stackTraces = false) {G : GG} {cl : CT} {lm : Nat × Nat} {Q : QT} {E : ET} {d2 : Nat} (hCl : CallsOK l G d2 cl ∧ hLm G lm ∧ 8 ≤ d2 ∧ LamsOK l G d2 cl) {x0 : Nat} {x1 : Int32} {h : HS} (hw : wb_X0_whichTold cl lm Q E x0 x1 h) : HMet l G yX0_whichTold (ws_ yX0_whichTold cX0_whichTold 4 ((Option.some Jvm.ClassFile.FieldType.int))) (d2 + 1) [.ref x0, .int x1] h Q E := by
  refine gh_met (own := RX0) rfl (by decide +kernel) hst (by simp only [lg_sl_i, lg_sl_r, lg_sl_a, lg_sl_2, lg_sl_f, lg_sl_0]; decide) (fun X hXl hXn hret hnm hTb h0 eh C S0 => ?_)
  subst hXl
  have hlm := hCl.2.1
  have hd8 := hCl.2.2.1
  have hd2 : 1 ≤ d2 := Nat.le_trans (by decide) hd8
  have hLa := hCl.2.2.2
  have hd1 : 1 ≤ d2 + 1 := Nat.le_add_left _ _
  have hC9 := hCl
  replace hCl := hCl.1
  have hini : True := trivial
  unfold wb_X0_whichTold at hw
  refine GK.sub (lv' := [(0, .ref x0), (1, .int x1)]) [0, 1] (by simp only [lv_args_i, lv_args_r, lv_args_a, lv_args_l, lv_args_f, lv_args_0]; rfl) ?_
  refine gk_aload_n (pc := 0) C.1 0 dX0_whichTold_0 rfl rfl ?_
  refine gk_iload_n (pc := 1) C.1 1 dX0_whichTold_1 rfl rfl ?_
  refine gc_X0_173 (pc := 2) (As := [.int x1]) (rest := []) C hCl (Nat.le_refl _) hw rfl rfl (Nat.le_of_ble_eq_true rfl) dX0_whichTold_2 (fun v9 h_1 hp => ?_) (fun q_3 h_4 hw ht9 => ?_)
  rotate_left
  · exact gx_out C S0 (by rw [hTb]; decide) ht9 hw
  clear hw
  obtain ⟨r_2, rfl, hw⟩ := hp
  refine GK.at (p2 := 5) rfl ?_
  refine gk_pop (pc := 5) C.1 dX0_whichTold_5 (va_rf_cat _) ?_
  refine gk_iconst (pc := 6) (v := 0) C.1 dX0_whichTold_6 (by decide) ?_
  refine gk_istore_n (pc := 7) (lv' := [(2, Value.int 0), (0, Value.ref x0), (1, Value.int x1)]) C.1 dX0_whichTold_7 rfl (by rw [hXn]; decide) (by first | rfl | simp [va_rf_S, va_rf_cat, cat_i, cat_a, cat_l, cat_f, fin4_0, fin4_1, fin4_2, fin4_3]) ?_
  refine gk_iconst (pc := 8) (v := 0) C.1 dX0_whichTold_8 (by decide) ?_
  refine gk_istore_n (pc := 9) (lv' := [(3, Value.int 0), (2, Value.int 0), (0, Value.ref x0), (1, Value.int x1)]) C.1 dX0_whichTold_9 rfl (by rw [hXn]; decide) (by first | rfl | simp [va_rf_S, va_rf_cat, cat_i, cat_a, cat_l, cat_f, fin4_0, fin4_1, fin4_2, fin4_3]) ?_
  refine GK.sub (lv' := [(0, .ref x0), (1, .int x1), (2, .int 0), (3, .int 0)]) [2, 3, 1, 0] rfl ?_
  obtain ⟨n9, hw⟩ := hw
  exact wk_X0_whichTold_10 C hC9 S0 hret hXn hini hTb  n9 _ _ _ _ _ hw
/-! 141: GathersAllFaults.within(JJJ)V -/
def wb_X0_within_28 (cl : CT) (lm : Nat × Nat) (Q : QT) (E : ET) (s0 : Int32) (h : HS) : Prop := cl 104 [.int s0, .int (-6)] h (gV (fun h_1 => Q none h_1)) E
theorem wk_X0_within_28 {X : Ev} {G : GG} {cl : CT} {lm : Nat × Nat} {Q : QT} {E : ET} {h0 : HS} {d2 : Nat} (C : HC X G RX0 cX0_within (d2 + 1)) (hCl : CallsOK (ev_l X) G d2 cl ∧ hLm G lm ∧ 8 ≤ d2 ∧ LamsOK (ev_l X) G d2 cl) (S0 : HS0 X h0) (hret : (ev_h X).sig.returnType = (Option.none : Option Jvm.ClassFile.FieldType)) (hXn : ev_n X = 6) (hini : True) (hTb : (ev_c X).exceptionTable.toList = []) : ∀ (s0 : Int32) (h : HS), wb_X0_within_28 cl lm Q E s0 h → GH X G h (hQ X G h0 Q E) 28 [] [.int s0] := by
  have hlm := hCl.2.1
  have hd8 := hCl.2.2.1
  have hd2 : 1 ≤ d2 := Nat.le_trans (by decide) hd8
  have hLa := hCl.2.2.2
  have hd1 : 1 ≤ d2 + 1 := Nat.le_add_left _ _
  have hC9 := hCl
  replace hCl := hCl.1
  intro s0 h hw
  unfold wb_X0_within_28 at hw
  refine gk_bipush (pc := 28) (v := (-6)) C.1 dX0_within_28 (by decide) ?_
  refine gc_X0_9 (pc := 30) (As := [.int s0, .int (-6)]) (rest := []) C hCl (Nat.le_refl _) hw rfl rfl (Nat.le_of_ble_eq_true rfl) dX0_within_30 (fun v9 h_1 hp => ?_) (fun q_2 h_3 hw ht9 => ?_)
  rotate_left
  · exact gx_out C S0 (by rw [hTb]; decide) ht9 hw
  clear hw
  obtain ⟨rfl, hw⟩ := hp
  refine GK.at (p2 := 33) rfl ?_
  exact gh_vret (pc := 33) C S0 hret dX0_within_33 hw
def wb_X0_within_11 (cl : CT) (lm : Nat × Nat) (Q : QT) (E : ET) (x0 : Int64) (x4 : Int64) (s0 : Int32) (h : HS) : Prop := cl 104 [.int s0, .int (-4)] h (gV (fun h_1 => ((0 < (lg_cmp x0 x4) → (wb_X0_within_28 cl lm Q E 0 h_1)) ∧ (¬ 0 < (lg_cmp x0 x4) → (wb_X0_within_28 cl lm Q E 1 h_1))))) E
theorem wk_X0_within_11 {X : Ev} {G : GG} {cl : CT} {lm : Nat × Nat} {Q : QT} {E : ET} {h0 : HS} {d2 : Nat} (C : HC X G RX0 cX0_within (d2 + 1)) (hCl : CallsOK (ev_l X) G d2 cl ∧ hLm G lm ∧ 8 ≤ d2 ∧ LamsOK (ev_l X) G d2 cl) (S0 : HS0 X h0) (hret : (ev_h X).sig.returnType = (Option.none : Option Jvm.ClassFile.FieldType)) (hXn : ev_n X = 6) (hini : True) (hTb : (ev_c X).exceptionTable.toList = []) : ∀ (x0 : Int64) (x4 : Int64) (s0 : Int32) (h : HS), wb_X0_within_11 cl lm Q E x0 x4 s0 h → GH X G h (hQ X G h0 Q E) 11 [(0, .long x0), (4, .long x4)] [.int s0] := by
  have hlm := hCl.2.1
  have hd8 := hCl.2.2.1
  have hd2 : 1 ≤ d2 := Nat.le_trans (by decide) hd8
  have hLa := hCl.2.2.2
  have hd1 : 1 ≤ d2 + 1 := Nat.le_add_left _ _
  have hC9 := hCl
  replace hCl := hCl.1
  intro x0 x4 s0 h hw
  unfold wb_X0_within_11 at hw
  refine gk_bipush (pc := 11) (v := (-4)) C.1 dX0_within_11 (by decide) ?_
  refine gc_X0_9 (pc := 13) (As := [.int s0, .int (-4)]) (rest := []) C hCl (Nat.le_refl _) hw rfl rfl (Nat.le_of_ble_eq_true rfl) dX0_within_13 (fun v9 h_1 hp => ?_) (fun q_2 h_3 hw ht9 => ?_)
  rotate_left
  · exact gx_out C S0 (by rw [hTb]; decide) ht9 hw
  clear hw
  obtain ⟨rfl, hw⟩ := hp
  refine GK.at (p2 := 16) rfl ?_
  refine gk_lload_n (pc := 16) C.1 0 dX0_within_16 rfl rfl ?_
  refine gk_lload (pc := 17) C.1 1 dX0_within_17 rfl ?_
  refine gk_lcmp (pc := 19) C.1 dX0_within_19 ?_
  refine gk_if_gt (pc := 20) (tgt := 27) C.1 dX0_within_20 (by decide) (fun c_4 => ?_) (fun c_4 => ?_)
  · replace hw := hw.1 c_4
    refine gk_iconst (pc := 27) (v := 0) C.1 dX0_within_27 (by decide) ?_
    refine GK.sub (lv' := []) [] rfl ?_
    exact wk_X0_within_28 C hC9 S0 hret hXn hini hTb  _ _ hw
  · replace hw := hw.2 c_4
    refine gk_iconst (pc := 23) (v := 1) C.1 dX0_within_23 (by decide) ?_
    refine gk_goto (pc := 24) (tgt := 28) C.1 dX0_within_24 (by decide) ?_
    refine GK.sub (lv' := []) [] rfl ?_
    exact wk_X0_within_28 C hC9 S0 hret hXn hini hTb  _ _ hw
def wb_X0_within (cl : CT) (lm : Nat × Nat) (Q : QT) (E : ET) (x0 : Int64) (x2 : Int64) (x4 : Int64) (h : HS) : Prop := (((lg_cmp x0 x2) < 0 → (wb_X0_within_11 cl lm Q E x0 x4 0 h)) ∧ (¬ (lg_cmp x0 x2) < 0 → (wb_X0_within_11 cl lm Q E x0 x4 1 h)))
theorem wx_X0_within {l : Launch} (hst : l.stackTraces = false) {G : GG} {cl : CT} {lm : Nat × Nat} {Q : QT} {E : ET} {d2 : Nat} (hCl : CallsOK l G d2 cl ∧ hLm G lm ∧ 8 ≤ d2 ∧ LamsOK l G d2 cl) {x0 : Int64} {x2 : Int64} {x4 : Int64} {h : HS} (hw : wb_X0_within cl lm Q E x0 x2 x4 h) : HMet l G yX0_within (ws_ yX0_within cX0_within 6 ((Option.none : Option Jvm.ClassFile.FieldType))) (d2 + 1) [.long x0, .long x2, .long x4] h Q E := by
  refine gh_met (own := RX0) rfl (by decide +kernel) hst (by simp only [lg_sl_i, lg_sl_r, lg_sl_a, lg_sl_2, lg_sl_f, lg_sl_0]; decide) (fun X hXl hXn hret hnm hTb h0 eh C S0 => ?_)
  subst hXl
  have hlm := hCl.2.1
  have hd8 := hCl.2.2.1
  have hd2 : 1 ≤ d2 := Nat.le_trans (by decide) hd8
  have hLa := hCl.2.2.2
  have hd1 : 1 ≤ d2 + 1 := Nat.le_add_left _ _
  have hC9 := hCl
  replace hCl := hCl.1
  have hini : True := trivial
  unfold wb_X0_within at hw
  refine GK.sub (lv' := [(0, .long x0), (2, .long x2), (4, .long x4)]) [0, 1, 2] (by simp only [lv_args_i, lv_args_r, lv_args_a, lv_args_l, lv_args_f, lv_args_0]; rfl) ?_
  refine gk_lload_n (pc := 0) C.1 0 dX0_within_0 rfl rfl ?_
  refine gk_lload_n (pc := 1) C.1 1 dX0_within_1 rfl rfl ?_
  refine gk_lcmp (pc := 2) C.1 dX0_within_2 ?_
  refine gk_if_lt (pc := 3) (tgt := 10) C.1 dX0_within_3 (by decide) (fun c_1 => ?_) (fun c_1 => ?_)
  · replace hw := hw.1 c_1
    refine gk_iconst (pc := 10) (v := 0) C.1 dX0_within_10 (by decide) ?_
    refine GK.sub (lv' := [(0, .long x0), (4, .long x4)]) [0, 2] rfl ?_
    exact wk_X0_within_11 C hC9 S0 hret hXn hini hTb  _ _ _ _ hw
  · replace hw := hw.2 c_1
    refine gk_iconst (pc := 6) (v := 1) C.1 dX0_within_6 (by decide) ?_
    refine gk_goto (pc := 7) (tgt := 11) C.1 dX0_within_7 (by decide) ?_
    refine GK.sub (lv' := [(0, .long x0), (4, .long x4)]) [0, 2] rfl ?_
    exact wk_X0_within_11 C hC9 S0 hret hXn hini hTb  _ _ _ _ hw
/-! 142: GathersAllFaults.without(I)I -/
def wb_X0_without (cl : CT) (lm : Nat × Nat) (Q : QT) (E : ET) (x0 : Nat) (x1 : Int32) (h : HS) : Prop := dp_GathersAllFaults_act cl x0 [.int 18, .int x1, .int 0, .int 0] h (gI (fun r_2 h_1 => Q (some (.int r_2)) h_1)) E
theorem wx_X0_without {l : Launch} (hst : l.stackTraces = false) {G : GG} {cl : CT} {lm : Nat × Nat} {Q : QT} {E : ET} {d2 : Nat} (hCl : CallsOK l G d2 cl ∧ hLm G lm ∧ 8 ≤ d2 ∧ LamsOK l G d2 cl) {x0 : Nat} {x1 : Int32} {h : HS} (hw : wb_X0_without cl lm Q E x0 x1 h) : HMet l G yX0_without (ws_ yX0_without cX0_without 2 ((Option.some Jvm.ClassFile.FieldType.int))) (d2 + 1) [.ref x0, .int x1] h Q E := by
  refine gh_met (own := RX0) rfl (by decide +kernel) hst (by simp only [lg_sl_i, lg_sl_r, lg_sl_a, lg_sl_2, lg_sl_f, lg_sl_0]; decide) (fun X hXl hXn hret hnm hTb h0 eh C S0 => ?_)
  subst hXl
  have hlm := hCl.2.1
  have hd8 := hCl.2.2.1
  have hd2 : 1 ≤ d2 := Nat.le_trans (by decide) hd8
  have hLa := hCl.2.2.2
  have hd1 : 1 ≤ d2 + 1 := Nat.le_add_left _ _
  have hC9 := hCl
  replace hCl := hCl.1
  have hini : True := trivial
  unfold wb_X0_without at hw
  refine GK.sub (lv' := [(0, .ref x0), (1, .int x1)]) [0, 1] (by simp only [lv_args_i, lv_args_r, lv_args_a, lv_args_l, lv_args_f, lv_args_0]; rfl) ?_
  refine gk_aload_n (pc := 0) C.1 0 dX0_without_0 rfl rfl ?_
  refine gk_bipush (pc := 1) (v := 18) C.1 dX0_without_1 (by decide) ?_
  refine gk_iload_n (pc := 3) C.1 1 dX0_without_3 rfl rfl ?_
  refine gk_iconst (pc := 4) (v := 0) C.1 dX0_without_4 (by decide) ?_
  refine gk_iconst (pc := 5) (v := 0) C.1 dX0_without_5 (by decide) ?_
  refine gc_X0_455 (pc := 6) (As := [.int 18, .int x1, .int 0, .int 0]) (rest := []) C hCl (Nat.le_refl _) hw rfl rfl (Nat.le_of_ble_eq_true rfl) dX0_without_6 (fun v9 h_1 hp => ?_) (fun q_3 h_4 hw ht9 => ?_)
  rotate_left
  · exact gx_out C S0 (by rw [hTb]; decide) ht9 hw
  clear hw
  obtain ⟨r_2, rfl, hw⟩ := hp
  refine GK.at (p2 := 9) rfl ?_
  exact gh_iret (pc := 9) C S0 hret dX0_without_9 hw
/-! 143: GathersAllFaults.withoutTold(I)I -/
def wb_X0_withoutTold_15 (cl : CT) (lm : Nat × Nat) (Q : QT) (E : ET) (x0 : Nat) (x1 : Int32) (s0 : Int32) (h : HS) : Prop := cl 104 [.int s0, .int (-3)] h (gV (fun h_1 => dp_GathersAllFaults_foundWith cl x0 [.int x1, va_rf none] h_1 (gI (fun r_5 h_4 => Q (some (.int r_5)) h_4)) E)) E
theorem wk_X0_withoutTold_15 {X : Ev} {G : GG} {cl : CT} {lm : Nat × Nat} {Q : QT} {E : ET} {h0 : HS} {d2 : Nat} (C : HC X G RX0 cX0_withoutTold (d2 + 1)) (hCl : CallsOK (ev_l X) G d2 cl ∧ hLm G lm ∧ 8 ≤ d2 ∧ LamsOK (ev_l X) G d2 cl) (S0 : HS0 X h0) (hret : (ev_h X).sig.returnType = (Option.some Jvm.ClassFile.FieldType.int)) (hXn : ev_n X = 2) (hini : True) (hTb : (ev_c X).exceptionTable.toList = []) : ∀ (x0 : Nat) (x1 : Int32) (s0 : Int32) (h : HS), wb_X0_withoutTold_15 cl lm Q E x0 x1 s0 h → GH X G h (hQ X G h0 Q E) 15 [(0, .ref x0), (1, .int x1)] [.int s0] := by
  have hlm := hCl.2.1
  have hd8 := hCl.2.2.1
  have hd2 : 1 ≤ d2 := Nat.le_trans (by decide) hd8
  have hLa := hCl.2.2.2
  have hd1 : 1 ≤ d2 + 1 := Nat.le_add_left _ _
  have hC9 := hCl
  replace hCl := hCl.1
  intro x0 x1 s0 h hw
  unfold wb_X0_withoutTold_15 at hw
  refine gk_bipush (pc := 15) (v := (-3)) C.1 dX0_withoutTold_15 (by decide) ?_
  refine gc_X0_9 (pc := 17) (As := [.int s0, .int (-3)]) (rest := []) C hCl (Nat.le_refl _) hw rfl rfl (Nat.le_of_ble_eq_true rfl) dX0_withoutTold_17 (fun v9 h_1 hp => ?_) (fun q_2 h_3 hw ht9 => ?_)
  rotate_left
  · exact gx_out C S0 (by rw [hTb]; decide) ht9 hw
  clear hw
  obtain ⟨rfl, hw⟩ := hp
  refine GK.at (p2 := 20) rfl ?_
  refine gk_aload_n (pc := 20) C.1 0 dX0_withoutTold_20 rfl rfl ?_
  refine gk_iload_n (pc := 21) C.1 1 dX0_withoutTold_21 rfl rfl ?_
  refine gk_null (pc := 22) C.1 dX0_withoutTold_22 ?_
  refine gc_X0_279 (pc := 23) (As := [.int x1, va_rf none]) (rest := []) C hCl (Nat.le_refl _) hw rfl rfl (Nat.le_of_ble_eq_true rfl) dX0_withoutTold_23 (fun v9 h_4 hp => ?_) (fun q_6 h_7 hw ht9 => ?_)
  rotate_left
  · exact gx_out C S0 (by rw [hTb]; decide) ht9 hw
  clear hw
  obtain ⟨r_5, rfl, hw⟩ := hp
  refine GK.at (p2 := 26) rfl ?_
  exact gh_iret (pc := 26) C S0 hret dX0_withoutTold_26 hw
def wb_X0_withoutTold (cl : CT) (lm : Nat × Nat) (Q : QT) (E : ET) (x0 : Nat) (x1 : Int32) (h : HS) : Prop := dp_GathersAllFaults_at cl x0 [.int x1] h (gR (fun r_2 h_1 => ((x1 ≤ 0 → (wb_X0_withoutTold_15 cl lm Q E x0 x1 0 h_1)) ∧ (¬ x1 ≤ 0 → (wb_X0_withoutTold_15 cl lm Q E x0 x1 1 h_1))))) E
theorem wx_X0_withoutTold {l : Launch} (hst : l.stackTraces = false) {G : GG} {cl : CT} {lm : Nat × Nat} {Q : QT} {E : ET} {d2 : Nat} (hCl : CallsOK l G d2 cl ∧ hLm G lm ∧ 8 ≤ d2 ∧ LamsOK l G d2 cl) {x0 : Nat} {x1 : Int32} {h : HS} (hw : wb_X0_withoutTold cl lm Q E x0 x1 h) : HMet l G yX0_withoutTold (ws_ yX0_withoutTold cX0_withoutTold 2 ((Option.some Jvm.ClassFile.FieldType.int))) (d2 + 1) [.ref x0, .int x1] h Q E := by
  refine gh_met (own := RX0) rfl (by decide +kernel) hst (by simp only [lg_sl_i, lg_sl_r, lg_sl_a, lg_sl_2, lg_sl_f, lg_sl_0]; decide) (fun X hXl hXn hret hnm hTb h0 eh C S0 => ?_)
  subst hXl
  have hlm := hCl.2.1
  have hd8 := hCl.2.2.1
  have hd2 : 1 ≤ d2 := Nat.le_trans (by decide) hd8
  have hLa := hCl.2.2.2
  have hd1 : 1 ≤ d2 + 1 := Nat.le_add_left _ _
  have hC9 := hCl
  replace hCl := hCl.1
  have hini : True := trivial
  unfold wb_X0_withoutTold at hw
  refine GK.sub (lv' := [(0, .ref x0), (1, .int x1)]) [0, 1] (by simp only [lv_args_i, lv_args_r, lv_args_a, lv_args_l, lv_args_f, lv_args_0]; rfl) ?_
  refine gk_aload_n (pc := 0) C.1 0 dX0_withoutTold_0 rfl rfl ?_
  refine gk_iload_n (pc := 1) C.1 1 dX0_withoutTold_1 rfl rfl ?_
  refine gc_X0_173 (pc := 2) (As := [.int x1]) (rest := []) C hCl (Nat.le_refl _) hw rfl rfl (Nat.le_of_ble_eq_true rfl) dX0_withoutTold_2 (fun v9 h_1 hp => ?_) (fun q_3 h_4 hw ht9 => ?_)
  rotate_left
  · exact gx_out C S0 (by rw [hTb]; decide) ht9 hw
  clear hw
  obtain ⟨r_2, rfl, hw⟩ := hp
  refine GK.at (p2 := 5) rfl ?_
  refine gk_pop (pc := 5) C.1 dX0_withoutTold_5 (va_rf_cat _) ?_
  refine gk_iload_n (pc := 6) C.1 1 dX0_withoutTold_6 rfl rfl ?_
  refine gk_if_le (pc := 7) (tgt := 14) C.1 dX0_withoutTold_7 (by decide) (fun c_5 => ?_) (fun c_5 => ?_)
  · replace hw := hw.1 c_5
    refine gk_iconst (pc := 14) (v := 0) C.1 dX0_withoutTold_14 (by decide) ?_
    refine GK.sub (lv' := [(0, .ref x0), (1, .int x1)]) [0, 1] rfl ?_
    exact wk_X0_withoutTold_15 C hC9 S0 hret hXn hini hTb  _ _ _ _ hw
  · replace hw := hw.2 c_5
    refine gk_iconst (pc := 10) (v := 1) C.1 dX0_withoutTold_10 (by decide) ?_
    refine gk_goto (pc := 11) (tgt := 15) C.1 dX0_withoutTold_11 (by decide) ?_
    refine GK.sub (lv' := [(0, .ref x0), (1, .int x1)]) [0, 1] rfl ?_
    exact wk_X0_withoutTold_15 C hC9 S0 hret hXn hini hTb  _ _ _ _ hw
/-! 144: GathersAllFaults$Value.<init>()V -/
def wb_X1_init (cl : CT) (lm : Nat × Nat) (Q : QT) (E : ET) (x0 : Nat) (h : HS) : Prop := Q none h
theorem wx_X1_init {l : Launch} (hst : l.stackTraces = false) {G : GG} {cl : CT} {lm : Nat × Nat} {Q : QT} {E : ET} {d2 : Nat} (hCl : CallsOK l G d2 cl ∧ hLm G lm ∧ 8 ≤ d2 ∧ LamsOK l G d2 cl) {x0 : Nat} {h : HS} (hw : wb_X1_init cl lm Q E x0 h) : HMet l G yX1_init (ws_ yX1_init cX1_init 1 ((Option.none : Option Jvm.ClassFile.FieldType))) (d2 + 1) [.ref x0] h Q E := by
  refine gh_met (own := RX1) rfl (by decide +kernel) hst (by simp only [lg_sl_i, lg_sl_r, lg_sl_a, lg_sl_2, lg_sl_f, lg_sl_0]; decide) (fun X hXl hXn hret hnm hTb h0 eh C S0 => ?_)
  subst hXl
  have hlm := hCl.2.1
  have hd8 := hCl.2.2.1
  have hd2 : 1 ≤ d2 := Nat.le_trans (by decide) hd8
  have hLa := hCl.2.2.2
  have hd1 : 1 ≤ d2 + 1 := Nat.le_add_left _ _
  have hC9 := hCl
  replace hCl := hCl.1
  have hini : (ev_h X).name = "<init>" := hnm.1
  unfold wb_X1_init at hw
  refine GK.sub (lv' := [(0, .ref x0)]) [0] (by simp only [lv_args_i, lv_args_r, lv_args_a, lv_args_l, lv_args_f, lv_args_0]; rfl) ?_
  refine gk_aload_n (pc := 0) C.1 0 dX1_init_0 rfl rfl ?_
  refine gh_obj (pc := 1) C hd1 q201 (Nat.le_of_ble_eq_true rfl) dX1_init_1 ?_
  exact gh_vret (pc := 4) C S0 hret dX1_init_4 hw
/-! 145: GathersAllFaults$Value.layAll(LGathersAllFaults$Row;I)V -/
def wb_X1_layAll (cl : CT) (lm : Nat × Nat) (Q : QT) (E : ET) (x0 : Nat) (x1 : Option Nat) (x2 : Int32) (h : HS) : Prop := hZ h + 1 ≤ lm.1 ∧ (hL h + 2 ≤ lm.2 ∧ (∀ (a_2 : Nat) (h_1 : HS), a_2 = hZ h → h_1 = hNew h 6 0 2 → (cl 248 (.ref a_2 :: [.int x2, .ref x0]) h_1 (gV (fun h_3 => ∃ a_6 : Nat, x1 = some a_6 ∧ (dp_Row_add cl a_6 [.ref a_2] h_3 (gV (fun h_7 => dp_Value_lay cl x0 [.ref a_6, .int x2] h_7 (gV (fun h_10 => Q none h_10)) E)) E))) E)))
theorem wx_X1_layAll {l : Launch} (hst : l.stackTraces = false) {G : GG} {cl : CT} {lm : Nat × Nat} {Q : QT} {E : ET} {d2 : Nat} (hCl : CallsOK l G d2 cl ∧ hLm G lm ∧ 8 ≤ d2 ∧ LamsOK l G d2 cl) {x0 : Nat} {x1 : Option Nat} {x2 : Int32} {h : HS} (hw : wb_X1_layAll cl lm Q E x0 x1 x2 h) : HMet l G yX1_layAll (ws_ yX1_layAll cX1_layAll 3 ((Option.none : Option Jvm.ClassFile.FieldType))) (d2 + 1) [.ref x0, va_rf x1, .int x2] h Q E := by
  refine gh_met (own := RX1) rfl (by decide +kernel) hst (by simp only [lg_sl_i, lg_sl_r, lg_sl_a, lg_sl_2, lg_sl_f, lg_sl_0]; decide) (fun X hXl hXn hret hnm hTb h0 eh C S0 => ?_)
  subst hXl
  have hlm := hCl.2.1
  have hd8 := hCl.2.2.1
  have hd2 : 1 ≤ d2 := Nat.le_trans (by decide) hd8
  have hLa := hCl.2.2.2
  have hd1 : 1 ≤ d2 + 1 := Nat.le_add_left _ _
  have hC9 := hCl
  replace hCl := hCl.1
  have hini : True := trivial
  unfold wb_X1_layAll at hw
  refine GK.sub (lv' := [(0, .ref x0), (1, va_rf x1), (2, .int x2)]) [0, 1, 2] (by simp only [lv_args_i, lv_args_r, lv_args_a, lv_args_l, lv_args_f, lv_args_0]; rfl) ?_
  refine gk_qload_n (pc := 0) C.1 1 dX1_layAll_0 rfl rfl ?_
  obtain ⟨hr1, hr2, hw⟩ := hw
  refine gn_X1_7 (pc := 1) C (hlm.1 ▸ hr1) (hlm.2 ▸ hr2) dX1_layAll_1 (fun h_1 eh_1 => ?_)
  obtain ⟨a_2, ea_2⟩ : ∃ z : Nat, z = hZ h := ⟨_, rfl⟩
  rw [← ea_2]
  replace hw := hw a_2 h_1 ea_2 eh_1
  refine gk_dup (pc := 4) C.1 dX1_layAll_4 rfl ?_
  refine gk_iload_n (pc := 5) C.1 2 dX1_layAll_5 rfl rfl ?_
  refine gk_aload_n (pc := 6) C.1 0 dX1_layAll_6 rfl rfl ?_
  refine gc_X1_9 (pc := 7) (As := [.int x2, .ref x0]) (rest := [.ref a_2, va_rf x1]) C hCl (Nat.le_refl _) hw rfl rfl (by simp [va_rf_S, va_rf_cat, cat_i, cat_a, cat_l, cat_f, fin4_0, fin4_1, fin4_2, fin4_3]) dX1_layAll_7 (fun v9 h_3 hp => ?_) (fun q_4 h_5 hw ht9 => ?_)
  rotate_left
  · exact gx_out C S0 (by rw [hTb]; decide) ht9 hw
  clear hw
  obtain ⟨rfl, hw⟩ := hp
  refine GK.at (p2 := 10) rfl ?_
  obtain ⟨a_6, rfl, hw⟩ := hw
  refine gc_X1_12 (pc := 10) (As := [.ref a_2]) (rest := []) C hCl (Nat.le_refl _) hw rfl rfl (Nat.le_of_ble_eq_true rfl) dX1_layAll_10 (fun v9 h_7 hp => ?_) (fun q_8 h_9 hw ht9 => ?_)
  rotate_left
  · exact gx_out C S0 (by rw [hTb]; decide) ht9 hw
  clear hw
  obtain ⟨rfl, hw⟩ := hp
  refine GK.at (p2 := 13) rfl ?_
  refine gk_aload_n (pc := 13) C.1 0 dX1_layAll_13 rfl rfl ?_
  refine gk_aload_n (pc := 14) C.1 1 dX1_layAll_14 rfl rfl ?_
  refine gk_iload_n (pc := 15) C.1 2 dX1_layAll_15 rfl rfl ?_
  refine gc_X1_18 (pc := 16) (As := [.ref a_6, .int x2]) (rest := []) C hCl (Nat.le_refl _) hw rfl rfl (Nat.le_of_ble_eq_true rfl) dX1_layAll_16 (fun v9 h_10 hp => ?_) (fun q_11 h_12 hw ht9 => ?_)
  rotate_left
  · exact gx_out C S0 (by rw [hTb]; decide) ht9 hw
  clear hw
  obtain ⟨rfl, hw⟩ := hp
  refine GK.at (p2 := 19) rfl ?_
  exact gh_vret (pc := 19) C S0 hret dX1_layAll_19 hw
/-! 146: GathersAllFaults$Num.equals(Ljava/lang/Object;)Z -/
def wb_X2_equals (cl : CT) (lm : Nat × Nat) (Q : QT) (E : ET) (x0 : Nat) (x1 : Option Nat) (h : HS) : Prop := (∃ a_1 : Nat, x1 = some a_1 ∧ ((hT h a_1 = 2) ∧ (ck_GathersAllFaults_Num h (some a_1) ∧ ((hT h a_1 = 2) ∧ ((hT h x0 = 2) ∧ (((¬ (hI h 17 a_1) = (hI h 17 x0) → (Q (some (.int 0)) h)) ∧ ((hI h 17 a_1) = (hI h 17 x0) → (Q (some (.int 1)) h))))))))) ∨ ((∀ a_1 : Nat, x1 = some a_1 → (hT h a_1 = 3 ∨ hT h a_1 = 4 ∨ hT h a_1 = 5 ∨ hT h a_1 = 300)) ∧ (Q (some (.int 0)) h))
theorem wx_X2_equals {l : Launch} (hst : l.stackTraces = false) {G : GG} {cl : CT} {lm : Nat × Nat} {Q : QT} {E : ET} {d2 : Nat} (hCl : CallsOK l G d2 cl ∧ hLm G lm ∧ 8 ≤ d2 ∧ LamsOK l G d2 cl) {x0 : Nat} {x1 : Option Nat} {h : HS} (hw : wb_X2_equals cl lm Q E x0 x1 h) : HMet l G yX2_equals (ws_ yX2_equals cX2_equals 3 ((Option.some Jvm.ClassFile.FieldType.boolean))) (d2 + 1) [.ref x0, va_rf x1] h Q E := by
  refine gh_met (own := RX2) rfl (by decide +kernel) hst (by simp only [lg_sl_i, lg_sl_r, lg_sl_a, lg_sl_2, lg_sl_f, lg_sl_0]; decide) (fun X hXl hXn hret hnm hTb h0 eh C S0 => ?_)
  subst hXl
  have hlm := hCl.2.1
  have hd8 := hCl.2.2.1
  have hd2 : 1 ≤ d2 := Nat.le_trans (by decide) hd8
  have hLa := hCl.2.2.2
  have hd1 : 1 ≤ d2 + 1 := Nat.le_add_left _ _
  have hC9 := hCl
  replace hCl := hCl.1
  have hini : True := trivial
  unfold wb_X2_equals at hw
  refine GK.sub (lv' := [(0, .ref x0), (1, va_rf x1)]) [0, 1] (by simp only [lv_args_i, lv_args_r, lv_args_a, lv_args_l, lv_args_f, lv_args_0]; rfl) ?_
  refine gk_qload_n (pc := 0) C.1 1 dX2_equals_0 rfl rfl ?_
  rcases hw with ⟨a_1, rfl, hs, hw⟩ | ⟨hs, hw⟩
  · skip
    refine gi_X2_8_y (pc := 1) C hs dX2_equals_1 ?_
    refine gk_if_eq (pc := 4) (tgt := 27) C.1 dX2_equals_4 (by decide) (fun c9 => ?_) (fun c9 => ?_)
    · exact absurd c9 (by decide)
    refine gk_aload_n (pc := 7) C.1 1 dX2_equals_7 rfl rfl ?_
    obtain ⟨hs, hw⟩ := hw
    refine gh_ckc (pc := 8) (r := (some a_1)) C q690 (ck_GathersAllFaults_Num_ok hs) dX2_equals_8 ?_
    refine gk_astore_n (pc := 11) (lv' := [(2, Value.ref a_1), (0, Value.ref x0), (1, Value.ref a_1)]) C.1 dX2_equals_11 rfl (by rw [hXn]; decide) (by first | rfl | simp [va_rf_S, va_rf_cat, cat_i, cat_a, cat_l, cat_f, fin4_0, fin4_1, fin4_2, fin4_3]) ?_
    refine gk_aload_n (pc := 12) C.1 0 dX2_equals_12 rfl rfl ?_
    obtain ⟨ht, hw⟩ := hw
    refine gf_X2_7 (pc := 13) C ht dX2_equals_13 ?_
    refine gk_aload_n (pc := 16) C.1 1 dX2_equals_16 rfl rfl ?_
    obtain ⟨ht, hw⟩ := hw
    refine gf_X2_7 (pc := 17) C ht dX2_equals_17 ?_
    refine gk_icmp_ne (pc := 20) (tgt := 27) C.1 dX2_equals_20 (by decide) (fun c_2 => ?_) (fun c_2 => ?_)
    · replace hw := hw.1 c_2
      refine gk_iconst (pc := 27) (v := 0) C.1 dX2_equals_27 (by decide) ?_
      exact gh_zret (pc := 28) C S0 hret dX2_equals_28 bz0 hw
    · replace hw := hw.2 c_2
      refine gk_iconst (pc := 23) (v := 1) C.1 dX2_equals_23 (by decide) ?_
      refine gk_goto (pc := 24) (tgt := 28) C.1 dX2_equals_24 (by decide) ?_
      exact gh_zret (pc := 28) C S0 hret dX2_equals_28 bz1 hw
  · refine gi_X2_8_n (pc := 1) (r := x1) C hs dX2_equals_1 ?_
    refine gk_if_eq (pc := 4) (tgt := 27) C.1 dX2_equals_4 (by decide) (fun c9 => ?_) (fun c9 => ?_)
    rotate_left
    · exact absurd rfl c9
    refine gk_iconst (pc := 27) (v := 0) C.1 dX2_equals_27 (by decide) ?_
    exact gh_zret (pc := 28) C S0 hret dX2_equals_28 bz0 hw
/-! 147: GathersAllFaults$Num.hashCode()I -/
def wb_X2_hashCode (cl : CT) (lm : Nat × Nat) (Q : QT) (E : ET) (x0 : Nat) (h : HS) : Prop := (hT h x0 = 2) ∧ (Q (some (.int (31 + (7 * (hI h 17 x0))))) h)
theorem wx_X2_hashCode {l : Launch} (hst : l.stackTraces = false) {G : GG} {cl : CT} {lm : Nat × Nat} {Q : QT} {E : ET} {d2 : Nat} (hCl : CallsOK l G d2 cl ∧ hLm G lm ∧ 8 ≤ d2 ∧ LamsOK l G d2 cl) {x0 : Nat} {h : HS} (hw : wb_X2_hashCode cl lm Q E x0 h) : HMet l G yX2_hashCode (ws_ yX2_hashCode cX2_hashCode 1 ((Option.some Jvm.ClassFile.FieldType.int))) (d2 + 1) [.ref x0] h Q E := by
  refine gh_met (own := RX2) rfl (by decide +kernel) hst (by simp only [lg_sl_i, lg_sl_r, lg_sl_a, lg_sl_2, lg_sl_f, lg_sl_0]; decide) (fun X hXl hXn hret hnm hTb h0 eh C S0 => ?_)
  subst hXl
  have hlm := hCl.2.1
  have hd8 := hCl.2.2.1
  have hd2 : 1 ≤ d2 := Nat.le_trans (by decide) hd8
  have hLa := hCl.2.2.2
  have hd1 : 1 ≤ d2 + 1 := Nat.le_add_left _ _
  have hC9 := hCl
  replace hCl := hCl.1
  have hini : True := trivial
  unfold wb_X2_hashCode at hw
  refine GK.sub (lv' := [(0, .ref x0)]) [0] (by simp only [lv_args_i, lv_args_r, lv_args_a, lv_args_l, lv_args_f, lv_args_0]; rfl) ?_
  refine gk_bipush (pc := 0) (v := 31) C.1 dX2_hashCode_0 (by decide) ?_
  refine gk_bipush (pc := 2) (v := 7) C.1 dX2_hashCode_2 (by decide) ?_
  refine gk_aload_n (pc := 4) C.1 0 dX2_hashCode_4 rfl rfl ?_
  obtain ⟨ht, hw⟩ := hw
  refine gf_X2_7 (pc := 5) C ht dX2_hashCode_5 ?_
  refine gk_imul (pc := 8) C.1 dX2_hashCode_8 ?_
  refine gk_iadd (pc := 9) C.1 dX2_hashCode_9 ?_
  exact gh_iret (pc := 10) C S0 hret dX2_hashCode_10 hw
/-! 148: GathersAllFaults$Num.<init>(I)V -/
def wb_X2_init (cl : CT) (lm : Nat × Nat) (Q : QT) (E : ET) (x0 : Nat) (x1 : Int32) (h : HS) : Prop := cl 144 (.ref x0 :: []) h (gV (fun h_1 => (hT h_1 x0 = 2) ∧ (∀ h_4 : HS, h_4 = sI h_1 17 x0 x1 → (Q none h_4)))) E
theorem wx_X2_init {l : Launch} (hst : l.stackTraces = false) {G : GG} {cl : CT} {lm : Nat × Nat} {Q : QT} {E : ET} {d2 : Nat} (hCl : CallsOK l G d2 cl ∧ hLm G lm ∧ 8 ≤ d2 ∧ LamsOK l G d2 cl) {x0 : Nat} {x1 : Int32} {h : HS} (hw : wb_X2_init cl lm Q E x0 x1 h) : HMet l G yX2_init (ws_ yX2_init cX2_init 2 ((Option.none : Option Jvm.ClassFile.FieldType))) (d2 + 1) [.ref x0, .int x1] h Q E := by
  refine gh_met (own := RX2) rfl (by decide +kernel) hst (by simp only [lg_sl_i, lg_sl_r, lg_sl_a, lg_sl_2, lg_sl_f, lg_sl_0]; decide) (fun X hXl hXn hret hnm hTb h0 eh C S0 => ?_)
  subst hXl
  have hlm := hCl.2.1
  have hd8 := hCl.2.2.1
  have hd2 : 1 ≤ d2 := Nat.le_trans (by decide) hd8
  have hLa := hCl.2.2.2
  have hd1 : 1 ≤ d2 + 1 := Nat.le_add_left _ _
  have hC9 := hCl
  replace hCl := hCl.1
  have hini : (ev_h X).name = "<init>" := hnm.1
  unfold wb_X2_init at hw
  refine GK.sub (lv' := [(0, .ref x0), (1, .int x1)]) [0, 1] (by simp only [lv_args_i, lv_args_r, lv_args_a, lv_args_l, lv_args_f, lv_args_0]; rfl) ?_
  refine gk_aload_n (pc := 0) C.1 0 dX2_init_0 rfl rfl ?_
  refine gc_X2_1 (pc := 1) (As := []) (rest := []) C hCl (Nat.le_refl _) hw rfl rfl (Nat.le_of_ble_eq_true rfl) dX2_init_1 (fun v9 h_1 hp => ?_) (fun q_2 h_3 hw ht9 => ?_)
  rotate_left
  · exact gx_out C S0 (by rw [hTb]; decide) ht9 hw
  clear hw
  obtain ⟨rfl, hw⟩ := hp
  refine GK.at (p2 := 4) rfl ?_
  refine gk_aload_n (pc := 4) C.1 0 dX2_init_4 rfl rfl ?_
  refine gk_iload_n (pc := 5) C.1 1 dX2_init_5 rfl rfl ?_
  obtain ⟨ht, hw⟩ := hw
  refine gfp_X2_7 (pc := 6) C ht dX2_init_6 (fun h_4 eh_4 => ?_)
  replace hw := hw h_4 eh_4
  exact gh_vret (pc := 9) C S0 hret dX2_init_9 hw
/-! 149: GathersAllFaults$Num.kind()I -/
def wb_X2_kind (cl : CT) (lm : Nat × Nat) (Q : QT) (E : ET) (x0 : Nat) (h : HS) : Prop := Q (some (.int 0)) h
theorem wx_X2_kind {l : Launch} (hst : l.stackTraces = false) {G : GG} {cl : CT} {lm : Nat × Nat} {Q : QT} {E : ET} {d2 : Nat} (hCl : CallsOK l G d2 cl ∧ hLm G lm ∧ 8 ≤ d2 ∧ LamsOK l G d2 cl) {x0 : Nat} {h : HS} (hw : wb_X2_kind cl lm Q E x0 h) : HMet l G yX2_kind (ws_ yX2_kind cX2_kind 1 ((Option.some Jvm.ClassFile.FieldType.int))) (d2 + 1) [.ref x0] h Q E := by
  refine gh_met (own := RX2) rfl (by decide +kernel) hst (by simp only [lg_sl_i, lg_sl_r, lg_sl_a, lg_sl_2, lg_sl_f, lg_sl_0]; decide) (fun X hXl hXn hret hnm hTb h0 eh C S0 => ?_)
  subst hXl
  have hlm := hCl.2.1
  have hd8 := hCl.2.2.1
  have hd2 : 1 ≤ d2 := Nat.le_trans (by decide) hd8
  have hLa := hCl.2.2.2
  have hd1 : 1 ≤ d2 + 1 := Nat.le_add_left _ _
  have hC9 := hCl
  replace hCl := hCl.1
  have hini : True := trivial
  unfold wb_X2_kind at hw
  refine GK.sub (lv' := [(0, .ref x0)]) [0] (by simp only [lv_args_i, lv_args_r, lv_args_a, lv_args_l, lv_args_f, lv_args_0]; rfl) ?_
  refine gk_iconst (pc := 0) (v := 0) C.1 dX2_kind_0 (by decide) ?_
  exact gh_iret (pc := 1) C S0 hret dX2_kind_1 hw
/-! 150: GathersAllFaults$Num.lay(LGathersAllFaults$Row;I)V -/
def wb_X2_lay (cl : CT) (lm : Nat × Nat) (Q : QT) (E : ET) (x0 : Nat) (x1 : Option Nat) (x2 : Int32) (h : HS) : Prop := Q none h
theorem wx_X2_lay {l : Launch} (hst : l.stackTraces = false) {G : GG} {cl : CT} {lm : Nat × Nat} {Q : QT} {E : ET} {d2 : Nat} (hCl : CallsOK l G d2 cl ∧ hLm G lm ∧ 8 ≤ d2 ∧ LamsOK l G d2 cl) {x0 : Nat} {x1 : Option Nat} {x2 : Int32} {h : HS} (hw : wb_X2_lay cl lm Q E x0 x1 x2 h) : HMet l G yX2_lay (ws_ yX2_lay cX2_lay 3 ((Option.none : Option Jvm.ClassFile.FieldType))) (d2 + 1) [.ref x0, va_rf x1, .int x2] h Q E := by
  refine gh_met (own := RX2) rfl (by decide +kernel) hst (by simp only [lg_sl_i, lg_sl_r, lg_sl_a, lg_sl_2, lg_sl_f, lg_sl_0]; decide) (fun X hXl hXn hret hnm hTb h0 eh C S0 => ?_)
  subst hXl
  have hlm := hCl.2.1
  have hd8 := hCl.2.2.1
  have hd2 : 1 ≤ d2 := Nat.le_trans (by decide) hd8
  have hLa := hCl.2.2.2
  have hd1 : 1 ≤ d2 + 1 := Nat.le_add_left _ _
  have hC9 := hCl
  replace hCl := hCl.1
  have hini : True := trivial
  unfold wb_X2_lay at hw
  refine GK.sub (lv' := [(0, .ref x0), (1, va_rf x1), (2, .int x2)]) [0, 1, 2] (by simp only [lv_args_i, lv_args_r, lv_args_a, lv_args_l, lv_args_f, lv_args_0]; rfl) ?_
  exact gh_vret (pc := 0) C S0 hret dX2_lay_0 hw
/-! 151: GathersAllFaults$Num.many()I -/
def wb_X2_many (cl : CT) (lm : Nat × Nat) (Q : QT) (E : ET) (x0 : Nat) (h : HS) : Prop := (hT h x0 = 2) ∧ (Q (some (.int (hI h 17 x0))) h)
theorem wx_X2_many {l : Launch} (hst : l.stackTraces = false) {G : GG} {cl : CT} {lm : Nat × Nat} {Q : QT} {E : ET} {d2 : Nat} (hCl : CallsOK l G d2 cl ∧ hLm G lm ∧ 8 ≤ d2 ∧ LamsOK l G d2 cl) {x0 : Nat} {h : HS} (hw : wb_X2_many cl lm Q E x0 h) : HMet l G yX2_many (ws_ yX2_many cX2_many 1 ((Option.some Jvm.ClassFile.FieldType.int))) (d2 + 1) [.ref x0] h Q E := by
  refine gh_met (own := RX2) rfl (by decide +kernel) hst (by simp only [lg_sl_i, lg_sl_r, lg_sl_a, lg_sl_2, lg_sl_f, lg_sl_0]; decide) (fun X hXl hXn hret hnm hTb h0 eh C S0 => ?_)
  subst hXl
  have hlm := hCl.2.1
  have hd8 := hCl.2.2.1
  have hd2 : 1 ≤ d2 := Nat.le_trans (by decide) hd8
  have hLa := hCl.2.2.2
  have hd1 : 1 ≤ d2 + 1 := Nat.le_add_left _ _
  have hC9 := hCl
  replace hCl := hCl.1
  have hini : True := trivial
  unfold wb_X2_many at hw
  refine GK.sub (lv' := [(0, .ref x0)]) [0] (by simp only [lv_args_i, lv_args_r, lv_args_a, lv_args_l, lv_args_f, lv_args_0]; rfl) ?_
  refine gk_aload_n (pc := 0) C.1 0 dX2_many_0 rfl rfl ?_
  obtain ⟨ht, hw⟩ := hw
  refine gf_X2_7 (pc := 1) C ht dX2_many_1 ?_
  exact gh_iret (pc := 4) C S0 hret dX2_many_4 hw
/-! 152: GathersAllFaults$Num.size()I -/
def wb_X2_size (cl : CT) (lm : Nat × Nat) (Q : QT) (E : ET) (x0 : Nat) (h : HS) : Prop := Q (some (.int 1)) h
theorem wx_X2_size {l : Launch} (hst : l.stackTraces = false) {G : GG} {cl : CT} {lm : Nat × Nat} {Q : QT} {E : ET} {d2 : Nat} (hCl : CallsOK l G d2 cl ∧ hLm G lm ∧ 8 ≤ d2 ∧ LamsOK l G d2 cl) {x0 : Nat} {h : HS} (hw : wb_X2_size cl lm Q E x0 h) : HMet l G yX2_size (ws_ yX2_size cX2_size 1 ((Option.some Jvm.ClassFile.FieldType.int))) (d2 + 1) [.ref x0] h Q E := by
  refine gh_met (own := RX2) rfl (by decide +kernel) hst (by simp only [lg_sl_i, lg_sl_r, lg_sl_a, lg_sl_2, lg_sl_f, lg_sl_0]; decide) (fun X hXl hXn hret hnm hTb h0 eh C S0 => ?_)
  subst hXl
  have hlm := hCl.2.1
  have hd8 := hCl.2.2.1
  have hd2 : 1 ≤ d2 := Nat.le_trans (by decide) hd8
  have hLa := hCl.2.2.2
  have hd1 : 1 ≤ d2 + 1 := Nat.le_add_left _ _
  have hC9 := hCl
  replace hCl := hCl.1
  have hini : True := trivial
  unfold wb_X2_size at hw
  refine GK.sub (lv' := [(0, .ref x0)]) [0] (by simp only [lv_args_i, lv_args_r, lv_args_a, lv_args_l, lv_args_f, lv_args_0]; rfl) ?_
  refine gk_iconst (pc := 0) (v := 1) C.1 dX2_size_0 (by decide) ?_
  exact gh_iret (pc := 1) C S0 hret dX2_size_1 hw
/-! 153: GathersAllFaults$Num.step(I)LGathersAllFaults$Value; -/
def wb_X2_step (cl : CT) (lm : Nat × Nat) (Q : QT) (E : ET) (x0 : Nat) (x1 : Int32) (h : HS) : Prop := Q (some (va_rf none)) h
theorem wx_X2_step {l : Launch} (hst : l.stackTraces = false) {G : GG} {cl : CT} {lm : Nat × Nat} {Q : QT} {E : ET} {d2 : Nat} (hCl : CallsOK l G d2 cl ∧ hLm G lm ∧ 8 ≤ d2 ∧ LamsOK l G d2 cl) {x0 : Nat} {x1 : Int32} {h : HS} (hw : wb_X2_step cl lm Q E x0 x1 h) : HMet l G yX2_step (ws_ yX2_step cX2_step 2 ((Option.some (Jvm.ClassFile.FieldType.object "GathersAllFaults$Value")))) (d2 + 1) [.ref x0, .int x1] h Q E := by
  refine gh_met (own := RX2) rfl (by decide +kernel) hst (by simp only [lg_sl_i, lg_sl_r, lg_sl_a, lg_sl_2, lg_sl_f, lg_sl_0]; decide) (fun X hXl hXn hret hnm hTb h0 eh C S0 => ?_)
  subst hXl
  have hlm := hCl.2.1
  have hd8 := hCl.2.2.1
  have hd2 : 1 ≤ d2 := Nat.le_trans (by decide) hd8
  have hLa := hCl.2.2.2
  have hd1 : 1 ≤ d2 + 1 := Nat.le_add_left _ _
  have hC9 := hCl
  replace hCl := hCl.1
  have hini : True := trivial
  unfold wb_X2_step at hw
  refine GK.sub (lv' := [(0, .ref x0), (1, .int x1)]) [0, 1] (by simp only [lv_args_i, lv_args_r, lv_args_a, lv_args_l, lv_args_f, lv_args_0]; rfl) ?_
  refine gk_null (pc := 0) C.1 dX2_step_0 ?_
  exact gh_aret (pc := 1) (r := none) C S0 hret (Or.inl ⟨_, rfl⟩) dX2_step_1 hw
/-! 154: GathersAllFaults$Num.total()I -/
def wb_X2_total (cl : CT) (lm : Nat × Nat) (Q : QT) (E : ET) (x0 : Nat) (h : HS) : Prop := (hT h x0 = 2) ∧ (Q (some (.int (hI h 17 x0))) h)
theorem wx_X2_total {l : Launch} (hst : l.stackTraces = false) {G : GG} {cl : CT} {lm : Nat × Nat} {Q : QT} {E : ET} {d2 : Nat} (hCl : CallsOK l G d2 cl ∧ hLm G lm ∧ 8 ≤ d2 ∧ LamsOK l G d2 cl) {x0 : Nat} {h : HS} (hw : wb_X2_total cl lm Q E x0 h) : HMet l G yX2_total (ws_ yX2_total cX2_total 1 ((Option.some Jvm.ClassFile.FieldType.int))) (d2 + 1) [.ref x0] h Q E := by
  refine gh_met (own := RX2) rfl (by decide +kernel) hst (by simp only [lg_sl_i, lg_sl_r, lg_sl_a, lg_sl_2, lg_sl_f, lg_sl_0]; decide) (fun X hXl hXn hret hnm hTb h0 eh C S0 => ?_)
  subst hXl
  have hlm := hCl.2.1
  have hd8 := hCl.2.2.1
  have hd2 : 1 ≤ d2 := Nat.le_trans (by decide) hd8
  have hLa := hCl.2.2.2
  have hd1 : 1 ≤ d2 + 1 := Nat.le_add_left _ _
  have hC9 := hCl
  replace hCl := hCl.1
  have hini : True := trivial
  unfold wb_X2_total at hw
  refine GK.sub (lv' := [(0, .ref x0)]) [0] (by simp only [lv_args_i, lv_args_r, lv_args_a, lv_args_l, lv_args_f, lv_args_0]; rfl) ?_
  refine gk_aload_n (pc := 0) C.1 0 dX2_total_0 rfl rfl ?_
  obtain ⟨ht, hw⟩ := hw
  refine gf_X2_7 (pc := 1) C ht dX2_total_1 ?_
  exact gh_iret (pc := 4) C S0 hret dX2_total_4 hw
/-! 155: GathersAllFaults$Num.with(ILGathersAllFaults$Value;)LGathersAllFaults$Value; -/
def wb_X2_with (cl : CT) (lm : Nat × Nat) (Q : QT) (E : ET) (x0 : Nat) (x1 : Int32) (x2 : Option Nat) (h : HS) : Prop := Q (some (va_rf (some x0))) h
theorem wx_X2_with {l : Launch} (hst : l.stackTraces = false) {G : GG} {cl : CT} {lm : Nat × Nat} {Q : QT} {E : ET} {d2 : Nat} (hCl : CallsOK l G d2 cl ∧ hLm G lm ∧ 8 ≤ d2 ∧ LamsOK l G d2 cl) {x0 : Nat} {x1 : Int32} {x2 : Option Nat} {h : HS} (hw : wb_X2_with cl lm Q E x0 x1 x2 h) : HMet l G yX2_with (ws_ yX2_with cX2_with 3 ((Option.some (Jvm.ClassFile.FieldType.object "GathersAllFaults$Value")))) (d2 + 1) [.ref x0, .int x1, va_rf x2] h Q E := by
  refine gh_met (own := RX2) rfl (by decide +kernel) hst (by simp only [lg_sl_i, lg_sl_r, lg_sl_a, lg_sl_2, lg_sl_f, lg_sl_0]; decide) (fun X hXl hXn hret hnm hTb h0 eh C S0 => ?_)
  subst hXl
  have hlm := hCl.2.1
  have hd8 := hCl.2.2.1
  have hd2 : 1 ≤ d2 := Nat.le_trans (by decide) hd8
  have hLa := hCl.2.2.2
  have hd1 : 1 ≤ d2 + 1 := Nat.le_add_left _ _
  have hC9 := hCl
  replace hCl := hCl.1
  have hini : True := trivial
  unfold wb_X2_with at hw
  refine GK.sub (lv' := [(0, .ref x0), (1, .int x1), (2, va_rf x2)]) [0, 1, 2] (by simp only [lv_args_i, lv_args_r, lv_args_a, lv_args_l, lv_args_f, lv_args_0]; rfl) ?_
  refine gk_aload_n (pc := 0) C.1 0 dX2_with_0 rfl rfl ?_
  exact gh_aret (pc := 1) (r := (some x0)) C S0 hret (Or.inl ⟨_, rfl⟩) dX2_with_1 hw
/-! 156: GathersAllFaults$Compiled.again()LGathersAllFaults$Look; -/
def wb_X3_again (cl : CT) (lm : Nat × Nat) (Q : QT) (E : ET) (x0 : Nat) (h : HS) : Prop := hZ h + 1 ≤ lm.1 ∧ (hL h + 1 ≤ lm.2 ∧ (∀ (a_1 : Nat) (h_2 : HS), a_1 = hZ h → h_2 = sR (hNew h 210 0 1) 97 (hZ h) (some x0) → (Q (some (va_rf (some a_1))) h_2)))
theorem wx_X3_again {l : Launch} (hst : l.stackTraces = false) {G : GG} {cl : CT} {lm : Nat × Nat} {Q : QT} {E : ET} {d2 : Nat} (hCl : CallsOK l G d2 cl ∧ hLm G lm ∧ 8 ≤ d2 ∧ LamsOK l G d2 cl) {x0 : Nat} {h : HS} (hw : wb_X3_again cl lm Q E x0 h) : HMet l G yX3_again (ws_ yX3_again cX3_again 1 ((Option.some (Jvm.ClassFile.FieldType.object "GathersAllFaults$Look")))) (d2 + 1) [.ref x0] h Q E := by
  refine gh_met (own := RX3) rfl (by decide +kernel) hst (by simp only [lg_sl_i, lg_sl_r, lg_sl_a, lg_sl_2, lg_sl_f, lg_sl_0]; decide) (fun X hXl hXn hret hnm hTb h0 eh C S0 => ?_)
  subst hXl
  have hlm := hCl.2.1
  have hd8 := hCl.2.2.1
  have hd2 : 1 ≤ d2 := Nat.le_trans (by decide) hd8
  have hLa := hCl.2.2.2
  have hd1 : 1 ≤ d2 + 1 := Nat.le_add_left _ _
  have hC9 := hCl
  replace hCl := hCl.1
  have hini : (ev_s X).methodNamed? yX3_again = some (ev_m X) := hnm.2
  unfold wb_X3_again at hw
  refine GK.sub (lv' := [(0, .ref x0)]) [0] (by simp only [lv_args_i, lv_args_r, lv_args_a, lv_args_l, lv_args_f, lv_args_0]; rfl) ?_
  refine gk_aload_n (pc := 0) C.1 0 dX3_again_0 rfl rfl ?_
  obtain ⟨hr1, hr2, hw⟩ := hw
  refine gd_10 (r0 := (some x0)) C hini (hlm.1 ▸ hr1) (hlm.2 ▸ hr2) (Nat.le_of_ble_eq_true rfl) dX3_again_1 (fun a_1 h_2 ea_1 eh_2 => ?_)
  replace hw := hw a_1 h_2 ea_1 eh_2
  exact gh_aret (pc := 6) (r := (some a_1)) C S0 hret (Or.inl ⟨_, rfl⟩) dX3_again_6 hw
/-! 157: GathersAllFaults$Compiled.<init>()V -/
def wb_X3_init (cl : CT) (lm : Nat × Nat) (Q : QT) (E : ET) (x0 : Nat) (h : HS) : Prop := ∀ a_1 : Nat, hT h a_1 = 301 → ((hT h x0 = 11) ∧ (∀ h_2 : HS, h_2 = sR h 34 x0 (some a_1) → ((hT h_2 x0 = 11) ∧ (∀ h_3 : HS, h_3 = sI h_2 35 x0 1 → (hZ h_3 + 1 ≤ lm.1 ∧ (hL h_3 + 4 ≤ lm.2 ∧ (∀ (a_5 : Nat) (h_4 : HS), a_5 = hZ h_3 → h_4 = hNew h_3 10 0 4 → (cl 164 (.ref a_5 :: []) h_4 (gV (fun h_6 => (hT h_6 x0 = 11) ∧ (∀ h_9 : HS, h_9 = sR h_6 36 x0 (some a_5) → (Q none h_9)))) E))))))))
theorem wx_X3_init {l : Launch} (hst : l.stackTraces = false) {G : GG} {cl : CT} {lm : Nat × Nat} {Q : QT} {E : ET} {d2 : Nat} (hCl : CallsOK l G d2 cl ∧ hLm G lm ∧ 8 ≤ d2 ∧ LamsOK l G d2 cl) {x0 : Nat} {h : HS} (hw : wb_X3_init cl lm Q E x0 h) : HMet l G yX3_init (ws_ yX3_init cX3_init 1 ((Option.none : Option Jvm.ClassFile.FieldType))) (d2 + 1) [.ref x0] h Q E := by
  refine gh_met (own := RX3) rfl (by decide +kernel) hst (by simp only [lg_sl_i, lg_sl_r, lg_sl_a, lg_sl_2, lg_sl_f, lg_sl_0]; decide) (fun X hXl hXn hret hnm hTb h0 eh C S0 => ?_)
  subst hXl
  have hlm := hCl.2.1
  have hd8 := hCl.2.2.1
  have hd2 : 1 ≤ d2 := Nat.le_trans (by decide) hd8
  have hLa := hCl.2.2.2
  have hd1 : 1 ≤ d2 + 1 := Nat.le_add_left _ _
  have hC9 := hCl
  replace hCl := hCl.1
  have hini : (ev_h X).name = "<init>" := hnm.1
  unfold wb_X3_init at hw
  refine GK.sub (lv' := [(0, .ref x0)]) [0] (by simp only [lv_args_i, lv_args_r, lv_args_a, lv_args_l, lv_args_f, lv_args_0]; rfl) ?_
  refine gk_aload_n (pc := 0) C.1 0 dX3_init_0 rfl rfl ?_
  refine gh_obj (pc := 1) C hd1 q212 (Nat.le_of_ble_eq_true rfl) dX3_init_1 ?_
  refine gk_aload_n (pc := 4) C.1 0 dX3_init_4 rfl rfl ?_
  refine gd_1 C hnm.2 (Nat.le_of_ble_eq_true rfl) dX3_init_5 (fun a_1 z3 => ?_)
  replace hw := hw a_1 z3
  obtain ⟨ht, hw⟩ := hw
  refine gfp_X3_11 (pc := 10) (r := (some a_1)) C ht dX3_init_10 (fun h_2 eh_2 => ?_)
  replace hw := hw h_2 eh_2
  refine gk_aload_n (pc := 13) C.1 0 dX3_init_13 rfl rfl ?_
  refine gk_iconst (pc := 14) (v := 1) C.1 dX3_init_14 (by decide) ?_
  obtain ⟨ht, hw⟩ := hw
  refine gfp_X3_17 (pc := 15) C ht dX3_init_15 (fun h_3 eh_3 => ?_)
  replace hw := hw h_3 eh_3
  refine gk_aload_n (pc := 18) C.1 0 dX3_init_18 rfl rfl ?_
  obtain ⟨hr1, hr2, hw⟩ := hw
  refine gn_X3_21 (pc := 19) C (hlm.1 ▸ hr1) (hlm.2 ▸ hr2) dX3_init_19 (fun h_4 eh_4 => ?_)
  obtain ⟨a_5, ea_5⟩ : ∃ z : Nat, z = hZ h_3 := ⟨_, rfl⟩
  rw [← ea_5]
  replace hw := hw a_5 h_4 ea_5 eh_4
  refine gk_dup (pc := 22) C.1 dX3_init_22 rfl ?_
  refine gc_X3_23 (pc := 23) (As := []) (rest := [.ref a_5, .ref x0]) C hCl (Nat.le_refl _) hw rfl rfl (Nat.le_of_ble_eq_true rfl) dX3_init_23 (fun v9 h_6 hp => ?_) (fun q_7 h_8 hw ht9 => ?_)
  rotate_left
  · exact gx_out C S0 (by rw [hTb]; decide) ht9 hw
  clear hw
  obtain ⟨rfl, hw⟩ := hp
  refine GK.at (p2 := 26) rfl ?_
  obtain ⟨ht, hw⟩ := hw
  refine gfp_X3_24 (pc := 26) (r := (some a_5)) C hini ht dX3_init_26 (fun h_9 eh_9 => ?_)
  replace hw := hw h_9 eh_9
  exact gh_vret (pc := 29) C S0 hret dX3_init_29 hw
/-! 158: GathersAllFaults$Compiled.lambda$again$1(LGathersAllFaults$Value;ILGathersAllFaults$Finding;)V -/
def wb_X3_lambda_again_1 (cl : CT) (lm : Nat × Nat) (Q : QT) (E : ET) (x0 : Nat) (x1 : Option Nat) (x2 : Int32) (x3 : Option Nat) (h : HS) : Prop := (hT h x0 = 11) ∧ (∀ r_1 : Option Nat, r_1 = hR h 34 x0 → (∃ a_2 : Nat, r_1 = some a_2 ∧ (dl_Look cl a_2 [va_rf x1, .int x2, va_rf x3] h (gV (fun h_3 => Q none h_3)) E)))
theorem wx_X3_lambda_again_1 {l : Launch} (hst : l.stackTraces = false) {G : GG} {cl : CT} {lm : Nat × Nat} {Q : QT} {E : ET} {d2 : Nat} (hCl : CallsOK l G d2 cl ∧ hLm G lm ∧ 8 ≤ d2 ∧ LamsOK l G d2 cl) {x0 : Nat} {x1 : Option Nat} {x2 : Int32} {x3 : Option Nat} {h : HS} (hw : wb_X3_lambda_again_1 cl lm Q E x0 x1 x2 x3 h) : HMet l G yX3_lambda_again_1 (ws_ yX3_lambda_again_1 cX3_lambda_again_1 4 ((Option.none : Option Jvm.ClassFile.FieldType))) (d2 + 1) [.ref x0, va_rf x1, .int x2, va_rf x3] h Q E := by
  refine gh_met (own := RX3) rfl (by decide +kernel) hst (by simp only [lg_sl_i, lg_sl_r, lg_sl_a, lg_sl_2, lg_sl_f, lg_sl_0]; decide) (fun X hXl hXn hret hnm hTb h0 eh C S0 => ?_)
  subst hXl
  have hlm := hCl.2.1
  have hd8 := hCl.2.2.1
  have hd2 : 1 ≤ d2 := Nat.le_trans (by decide) hd8
  have hLa := hCl.2.2.2
  have hd1 : 1 ≤ d2 + 1 := Nat.le_add_left _ _
  have hC9 := hCl
  replace hCl := hCl.1
  have hini : True := trivial
  unfold wb_X3_lambda_again_1 at hw
  refine GK.sub (lv' := [(0, .ref x0), (1, va_rf x1), (2, .int x2), (3, va_rf x3)]) [0, 1, 2, 3] (by simp only [lv_args_i, lv_args_r, lv_args_a, lv_args_l, lv_args_f, lv_args_0]; rfl) ?_
  refine gk_aload_n (pc := 0) C.1 0 dX3_lambda_again_1_0 rfl rfl ?_
  obtain ⟨ht, hw⟩ := hw
  refine gf_X3_11 (pc := 1) C ht dX3_lambda_again_1_1 (fun r_1 er_1 => ?_)
  replace hw := hw r_1 er_1
  refine gk_qload_n (pc := 4) C.1 1 dX3_lambda_again_1_4 rfl rfl ?_
  refine gk_iload_n (pc := 5) C.1 2 dX3_lambda_again_1_5 rfl rfl ?_
  refine gk_qload_n (pc := 6) C.1 3 dX3_lambda_again_1_6 rfl rfl ?_
  obtain ⟨a_2, rfl, hw⟩ := hw
  refine gcl_X3_41 (pc := 7) (As := [va_rf x1, .int x2, va_rf x3]) (rest := []) C hLa (Nat.le_refl _) hw rfl rfl (Nat.le_of_ble_eq_true rfl) dX3_lambda_again_1_7 (fun v9 h_3 hp => ?_) (fun q_4 h_5 hw ht9 => ?_)
  rotate_left
  · exact gx_out C S0 (by rw [hTb]; decide) ht9 hw
  clear hw
  obtain ⟨rfl, hw⟩ := hp
  refine GK.at (p2 := 12) rfl ?_
  exact gh_vret (pc := 12) C S0 hret dX3_lambda_again_1_12 hw
/-! 159: GathersAllFaults$Compiled.lambda$new$0(LGathersAllFaults$Value;ILGathersAllFaults$Finding;)V -/
def wb_X3_lambda_new_0 (cl : CT) (lm : Nat × Nat) (Q : QT) (E : ET) (x0 : Option Nat) (x1 : Int32) (x2 : Option Nat) (h : HS) : Prop := Q none h
theorem wx_X3_lambda_new_0 {l : Launch} (hst : l.stackTraces = false) {G : GG} {cl : CT} {lm : Nat × Nat} {Q : QT} {E : ET} {d2 : Nat} (hCl : CallsOK l G d2 cl ∧ hLm G lm ∧ 8 ≤ d2 ∧ LamsOK l G d2 cl) {x0 : Option Nat} {x1 : Int32} {x2 : Option Nat} {h : HS} (hw : wb_X3_lambda_new_0 cl lm Q E x0 x1 x2 h) : HMet l G yX3_lambda_new_0 (ws_ yX3_lambda_new_0 cX3_lambda_new_0 3 ((Option.none : Option Jvm.ClassFile.FieldType))) (d2 + 1) [va_rf x0, .int x1, va_rf x2] h Q E := by
  refine gh_met (own := RX3) rfl (by decide +kernel) hst (by simp only [lg_sl_i, lg_sl_r, lg_sl_a, lg_sl_2, lg_sl_f, lg_sl_0]; decide) (fun X hXl hXn hret hnm hTb h0 eh C S0 => ?_)
  subst hXl
  have hlm := hCl.2.1
  have hd8 := hCl.2.2.1
  have hd2 : 1 ≤ d2 := Nat.le_trans (by decide) hd8
  have hLa := hCl.2.2.2
  have hd1 : 1 ≤ d2 + 1 := Nat.le_add_left _ _
  have hC9 := hCl
  replace hCl := hCl.1
  have hini : True := trivial
  unfold wb_X3_lambda_new_0 at hw
  refine GK.sub (lv' := [(0, va_rf x0), (1, .int x1), (2, va_rf x2)]) [0, 1, 2] (by simp only [lv_args_i, lv_args_r, lv_args_a, lv_args_l, lv_args_f, lv_args_0]; rfl) ?_
  exact gh_vret (pc := 0) C S0 hret dX3_lambda_new_0_0 hw
