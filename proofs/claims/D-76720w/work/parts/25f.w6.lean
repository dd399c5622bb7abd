set_option maxRecDepth 100000
/-! 100: GathersAllFaults.mean(I)J -/
def wb_X0_mean (cl : CT) (lm : Nat × Nat) (Q : QT) (E : ET) (x0 : Nat) (x1 : Int32) (h : HS) : Prop := dp_GathersAllFaults_meanTold cl x0 [.int x1] h (gL (fun r_2 h_1 => Q (some (.long r_2)) h_1)) E
theorem wx_X0_mean {l : Launch} (hst : l.stackTraces = false) {G : GG} {cl : CT} {lm : Nat × Nat} {Q : QT} {E : ET} {d2 : Nat} (hCl : CallsOK l G d2 cl ∧ hLm G lm ∧ 8 ≤ d2 ∧ LamsOK l G d2 cl) {x0 : Nat} {x1 : Int32} {h : HS} (hw : wb_X0_mean cl lm Q E x0 x1 h) : HMet l G yX0_mean (ws_ yX0_mean cX0_mean 2 ((Option.some Jvm.ClassFile.FieldType.long))) (d2 + 1) [.ref x0, .int x1] h Q E := by
  refine gh_met (own := RX0) rfl (by decide +kernel) hst (by simp only [lg_sl_i, lg_sl_r, lg_sl_a, lg_sl_2, lg_sl_f, lg_sl_0]; decide) (fun X hXl hXn hret hnm hTb h0 eh C S0 => ?_)
  subst hXl
  have hlm := hCl.2.1
  have hd8 := hCl.2.2.1
  have hd2 : 1 ≤ d2 := Nat.le_trans (by decide) hd8
  have hLa := hCl.2.2.2
  have hd1 : 1 ≤ d2 + 1 := Nat.le_add_left _ _
  have hC9 := hCl
  replace hCl := hCl.1
  have hini : True := trivial
  unfold wb_X0_mean at hw
  refine GK.sub (lv' := [(0, .ref x0), (1, .int x1)]) [0, 1] (by simp only [lv_args_i, lv_args_r, lv_args_a, lv_args_l, lv_args_f, lv_args_0]; rfl) ?_
  refine gk_aload_n (pc := 0) C.1 0 dX0_mean_0 rfl rfl ?_
  refine gk_iload_n (pc := 1) C.1 1 dX0_mean_1 rfl rfl ?_
  refine gc_X0_461 (pc := 2) (As := [.int x1]) (rest := []) C hCl (Nat.le_refl _) hw rfl rfl (Nat.le_of_ble_eq_true rfl) dX0_mean_2 (fun v9 h_1 hp => ?_) (fun q_3 h_4 hw ht9 => ?_)
  rotate_left
  · exact gx_out C S0 (by rw [hTb]; decide) ht9 hw
  clear hw
  obtain ⟨r_2, rfl, hw⟩ := hp
  refine GK.at (p2 := 5) rfl ?_
  exact gh_lret (pc := 5) C S0 hret dX0_mean_5 hw
/-! 101: GathersAllFaults.meanTold(I)J -/
def wb_X0_meanTold_28 (cl : CT) (lm : Nat × Nat) (Q : QT) (E : ET) (x0 : Nat) (s0 : Nat) (h : HS) : Prop := dp_GathersAllFaults_far cl x0 [.ref s0] h (gL (fun r_2 h_1 => Q (some (.long r_2)) h_1)) E
theorem wk_X0_meanTold_28 {X : Ev} {G : GG} {cl : CT} {lm : Nat × Nat} {Q : QT} {E : ET} {h0 : HS} {d2 : Nat} (C : HC X G RX0 cX0_meanTold (d2 + 1)) (hCl : CallsOK (ev_l X) G d2 cl ∧ hLm G lm ∧ 8 ≤ d2 ∧ LamsOK (ev_l X) G d2 cl) (S0 : HS0 X h0) (hret : (ev_h X).sig.returnType = (Option.some Jvm.ClassFile.FieldType.long)) (hXn : ev_n X = 3) (hini : True) (hTb : (ev_c X).exceptionTable.toList = tableOf [(0, 27, 28, 342)]) : ∀ (x0 : Nat) (s0 : Nat) (h : HS), wb_X0_meanTold_28 cl lm Q E x0 s0 h → GH X G h (hQ X G h0 Q E) 28 [(0, .ref x0)] [.ref s0] := by
  have hlm := hCl.2.1
  have hd8 := hCl.2.2.1
  have hd2 : 1 ≤ d2 := Nat.le_trans (by decide) hd8
  have hLa := hCl.2.2.2
  have hd1 : 1 ≤ d2 + 1 := Nat.le_add_left _ _
  have hC9 := hCl
  replace hCl := hCl.1
  intro x0 s0 h hw
  unfold wb_X0_meanTold_28 at hw
  refine gk_astore_n (pc := 28) (lv' := [(2, Value.ref s0), (0, Value.ref x0)]) C.1 dX0_meanTold_28 rfl (by rw [hXn]; decide) (by first | rfl | simp [va_rf_S, va_rf_cat, cat_i, cat_a, cat_l, cat_f, fin4_0, fin4_1, fin4_2, fin4_3]) ?_
  refine gk_aload_n (pc := 29) C.1 1 dX0_meanTold_29 rfl rfl ?_
  refine gk_aload_n (pc := 30) C.1 0 dX0_meanTold_30 rfl rfl ?_
  refine gc_X0_448 (pc := 31) (As := [.ref s0]) (rest := []) C hCl (Nat.le_refl _) hw rfl rfl (Nat.le_of_ble_eq_true rfl) dX0_meanTold_31 (fun v9 h_1 hp => ?_) (fun q_3 h_4 hw ht9 => ?_)
  rotate_left
  · exact gx_out C S0 (by rw [hTb]; decide) ht9 hw
  clear hw
  obtain ⟨r_2, rfl, hw⟩ := hp
  refine GK.at (p2 := 34) rfl ?_
  exact gh_lret (pc := 34) C S0 hret dX0_meanTold_34 hw
def wb_X0_meanTold (cl : CT) (lm : Nat × Nat) (Q : QT) (E : ET) (x0 : Nat) (x1 : Int32) (h : HS) : Prop := cl 105 [.int x1] h (gV (fun h_1 => dp_GathersAllFaults_found cl x0 [] h_1 (gR (fun r_5 h_4 => ∃ a_8 : Nat, r_5 = some a_8 ∧ ((hT h_4 a_8 = 9) ∧ (∀ r_9 : Option Nat, r_9 = hR h_4 28 a_8 → (∃ a_10 : Nat, r_9 = some a_10 ∧ ((hT h_4 a_10 = 7) ∧ ((hT h_4 x0 = 1) ∧ (∀ r_11 : Option Nat, r_11 = hR h_4 0 x0 → (∃ a_12 : Nat, r_11 = some a_12 ∧ (dp_Value_size cl a_12 [] h_4 (gI (fun r_14 h_13 => cl 117 [.long ((hI h_4 24 a_10 : Int32).toInt64), .long ((r_14 : Int32).toInt64), .int x1] h_13 (gL (fun r_18 h_17 => Q (some (.long r_18)) h_17)) (fun q_19 h_20 => wb_X0_meanTold_28 cl lm Q E x0 q_19 h_20))) (fun q_15 h_16 => wb_X0_meanTold_28 cl lm Q E x0 q_15 h_16))))))))))) (fun q_6 h_7 => wb_X0_meanTold_28 cl lm Q E x0 q_6 h_7))) (fun q_2 h_3 => wb_X0_meanTold_28 cl lm Q E x0 q_2 h_3)
theorem wx_X0_meanTold {l : Launch} (hst : l.stackTraces = false) {G : GG} {cl : CT} {lm : Nat × Nat} {Q : QT} {E : ET} {d2 : Nat} (hCl : CallsOK l G d2 cl ∧ hLm G lm ∧ 8 ≤ d2 ∧ LamsOK l G d2 cl) {x0 : Nat} {x1 : Int32} {h : HS} (hw : wb_X0_meanTold cl lm Q E x0 x1 h) : HMet l G yX0_meanTold (wsW_ yX0_meanTold cX0_meanTold 3 ((Option.some Jvm.ClassFile.FieldType.long)) [(0, 27, 28, 342)]) (d2 + 1) [.ref x0, .int x1] h Q E := by
  refine gh_metW (own := RX0) rfl (by decide +kernel) hst (by simp only [lg_sl_i, lg_sl_r, lg_sl_a, lg_sl_2, lg_sl_f, lg_sl_0]; decide) (fun X hXl hXn hret hnm hTb h0 eh C S0 => ?_)
  subst hXl
  have hlm := hCl.2.1
  have hd8 := hCl.2.2.1
  have hd2 : 1 ≤ d2 := Nat.le_trans (by decide) hd8
  have hLa := hCl.2.2.2
  have hd1 : 1 ≤ d2 + 1 := Nat.le_add_left _ _
  have hC9 := hCl
  replace hCl := hCl.1
  have hini : True := trivial
  unfold wb_X0_meanTold at hw
  refine GK.sub (lv' := [(0, .ref x0), (1, .int x1)]) [0, 1] (by simp only [lv_args_i, lv_args_r, lv_args_a, lv_args_l, lv_args_f, lv_args_0]; rfl) ?_
  refine gk_iload_n (pc := 0) C.1 1 dX0_meanTold_0 rfl rfl ?_
  refine gc_X0_226 (pc := 1) (As := [.int x1]) (rest := []) C hCl (Nat.le_refl _) hw rfl rfl (Nat.le_of_ble_eq_true rfl) dX0_meanTold_1 (fun v9 h_1 hp => ?_) (fun q_2 h_3 hw ht9 => ?_)
  rotate_left
  · refine gx_catch C [] ⟨0, 27, 28, 342⟩ [] (by rw [hTb]; rfl) (by decide) (by decide) (by decide) q327 ⟨q2731, q2730⟩ ht9 ?_
    refine GK.sub (lv' := [(0, .ref x0)]) [0] rfl ?_
    exact wk_X0_meanTold_28 C hC9 S0 hret hXn hini hTb  _ _ _ hw
  clear hw
  obtain ⟨rfl, hw⟩ := hp
  refine GK.at (p2 := 4) rfl ?_
  refine gk_aload_n (pc := 4) C.1 0 dX0_meanTold_4 rfl rfl ?_
  refine gc_X0_229 (pc := 5) (As := []) (rest := []) C hCl (Nat.le_refl _) hw rfl rfl (Nat.le_of_ble_eq_true rfl) dX0_meanTold_5 (fun v9 h_4 hp => ?_) (fun q_6 h_7 hw ht9 => ?_)
  rotate_left
  · refine gx_catch C [] ⟨0, 27, 28, 342⟩ [] (by rw [hTb]; rfl) (by decide) (by decide) (by decide) q327 ⟨q2731, q2730⟩ ht9 ?_
    refine GK.sub (lv' := [(0, .ref x0)]) [0] rfl ?_
    exact wk_X0_meanTold_28 C hC9 S0 hret hXn hini hTb  _ _ _ hw
  clear hw
  obtain ⟨r_5, rfl, hw⟩ := hp
  refine GK.at (p2 := 8) rfl ?_
  obtain ⟨a_8, rfl, hw⟩ := hw
  obtain ⟨ht, hw⟩ := hw
  refine gf_X0_221 (pc := 8) C ht dX0_meanTold_8 (fun r_9 er_9 => ?_)
  replace hw := hw r_9 er_9
  obtain ⟨a_10, rfl, hw⟩ := hw
  obtain ⟨ht, hw⟩ := hw
  refine gf_X0_149 (pc := 11) C ht dX0_meanTold_11 ?_
  refine gk_i2l (pc := 14) C.1 dX0_meanTold_14 ?_
  refine gk_aload_n (pc := 15) C.1 0 dX0_meanTold_15 rfl rfl ?_
  obtain ⟨ht, hw⟩ := hw
  refine gf_X0_66 (pc := 16) C ht dX0_meanTold_16 (fun r_11 er_11 => ?_)
  replace hw := hw r_11 er_11
  obtain ⟨a_12, rfl, hw⟩ := hw
  refine gc_X0_54 (pc := 19) (As := []) (rest := [.long ((hI h_4 24 a_10 : Int32).toInt64)]) C hCl (Nat.le_refl _) hw rfl rfl (Nat.le_of_ble_eq_true rfl) dX0_meanTold_19 (fun v9 h_13 hp => ?_) (fun q_15 h_16 hw ht9 => ?_)
  rotate_left
  · refine gx_catch C [] ⟨0, 27, 28, 342⟩ [] (by rw [hTb]; rfl) (by decide) (by decide) (by decide) q327 ⟨q2731, q2730⟩ ht9 ?_
    refine GK.sub (lv' := [(0, .ref x0)]) [0] rfl ?_
    exact wk_X0_meanTold_28 C hC9 S0 hret hXn hini hTb  _ _ _ hw
  clear hw
  obtain ⟨r_14, rfl, hw⟩ := hp
  refine GK.at (p2 := 22) rfl ?_
  refine gk_i2l (pc := 22) C.1 dX0_meanTold_22 ?_
  refine gk_iload_n (pc := 23) C.1 1 dX0_meanTold_23 rfl rfl ?_
  refine gc_X0_297 (pc := 24) (As := [.long ((hI h_4 24 a_10 : Int32).toInt64), .long ((r_14 : Int32).toInt64), .int x1]) (rest := []) C hCl (Nat.le_refl _) hw rfl rfl (Nat.le_of_ble_eq_true rfl) dX0_meanTold_24 (fun v9 h_17 hp => ?_) (fun q_19 h_20 hw ht9 => ?_)
  rotate_left
  · refine gx_catch C [] ⟨0, 27, 28, 342⟩ [] (by rw [hTb]; rfl) (by decide) (by decide) (by decide) q327 ⟨q2731, q2730⟩ ht9 ?_
    refine GK.sub (lv' := [(0, .ref x0)]) [0] rfl ?_
    exact wk_X0_meanTold_28 C hC9 S0 hret hXn hini hTb  _ _ _ hw
  clear hw
  obtain ⟨r_18, rfl, hw⟩ := hp
  refine GK.at (p2 := 27) rfl ?_
  exact gh_lret (pc := 27) C S0 hret dX0_meanTold_27 hw
/-! 102: GathersAllFaults.mend(I)I -/
def wb_X0_mend (cl : CT) (lm : Nat × Nat) (Q : QT) (E : ET) (x0 : Nat) (x1 : Int32) (h : HS) : Prop := dp_GathersAllFaults_act cl x0 [.int 19, .int x1, .int 0, .int 0] h (gI (fun r_2 h_1 => Q (some (.int r_2)) h_1)) E
theorem wx_X0_mend {l : Launch} (hst : l.stackTraces = false) {G : GG} {cl : CT} {lm : Nat × Nat} {Q : QT} {E : ET} {d2 : Nat} (hCl : CallsOK l G d2 cl ∧ hLm G lm ∧ 8 ≤ d2 ∧ LamsOK l G d2 cl) {x0 : Nat} {x1 : Int32} {h : HS} (hw : wb_X0_mend cl lm Q E x0 x1 h) : HMet l G yX0_mend (ws_ yX0_mend cX0_mend 2 ((Option.some Jvm.ClassFile.FieldType.int))) (d2 + 1) [.ref x0, .int x1] h Q E := by
  refine gh_met (own := RX0) rfl (by decide +kernel) hst (by simp only [lg_sl_i, lg_sl_r, lg_sl_a, lg_sl_2, lg_sl_f, lg_sl_0]; decide) (fun X hXl hXn hret hnm hTb h0 eh C S0 => ?_)
  subst hXl
  have hlm := hCl.2.1
  have hd8 := hCl.2.2.1
  have hd2 : 1 ≤ d2 := Nat.le_trans (by decide) hd8
  have hLa := hCl.2.2.2
  have hd1 : 1 ≤ d2 + 1 := Nat.le_add_left _ _
  have hC9 := hCl
  replace hCl := hCl.1
  have hini : True := trivial
  unfold wb_X0_mend at hw
  refine GK.sub (lv' := [(0, .ref x0), (1, .int x1)]) [0, 1] (by simp only [lv_args_i, lv_args_r, lv_args_a, lv_args_l, lv_args_f, lv_args_0]; rfl) ?_
  refine gk_aload_n (pc := 0) C.1 0 dX0_mend_0 rfl rfl ?_
  refine gk_bipush (pc := 1) (v := 19) C.1 dX0_mend_1 (by decide) ?_
  refine gk_iload_n (pc := 3) C.1 1 dX0_mend_3 rfl rfl ?_
  refine gk_iconst (pc := 4) (v := 0) C.1 dX0_mend_4 (by decide) ?_
  refine gk_iconst (pc := 5) (v := 0) C.1 dX0_mend_5 (by decide) ?_
  refine gc_X0_455 (pc := 6) (As := [.int 19, .int x1, .int 0, .int 0]) (rest := []) C hCl (Nat.le_refl _) hw rfl rfl (Nat.le_of_ble_eq_true rfl) dX0_mend_6 (fun v9 h_1 hp => ?_) (fun q_3 h_4 hw ht9 => ?_)
  rotate_left
  · exact gx_out C S0 (by rw [hTb]; decide) ht9 hw
  clear hw
  obtain ⟨r_2, rfl, hw⟩ := hp
  refine GK.at (p2 := 9) rfl ?_
  exact gh_iret (pc := 9) C S0 hret dX0_mend_9 hw
/-! 103: GathersAllFaults.mendTold(I)I -/
def wb_X0_mendTold_108 (cl : CT) (lm : Nat × Nat) (Q : QT) (E : ET) (J27 : Nat → Int32 → Option Nat → Int32 → Int32 → Int32 → HS → Prop) (J39 : Nat → Int32 → Option Nat → Int32 → Int32 → Int32 → Int32 → HS → Prop) (x0 : Nat) (x1 : Int32) (x2 : Option Nat) (x3 : Int32) (x5 : Int32) (x6 : Int32) (x7 : Int32) (s0 : Int32) (h : HS) : Prop := ∀ x_1 : Int32, x_1 = (if x7 < x3 then x7 else x3) → (∀ x_2 : Int32, x_2 = x6 + 1 → (J39 x0 x1 x2 x_1 s0 x5 x_2 h))
theorem wk_X0_mendTold_108 {X : Ev} {G : GG} {cl : CT} {lm : Nat × Nat} {Q : QT} {E : ET} {h0 : HS} {d2 : Nat} {J27 : Nat → Int32 → Option Nat → Int32 → Int32 → Int32 → HS → Prop} {J39 : Nat → Int32 → Option Nat → Int32 → Int32 → Int32 → Int32 → HS → Prop} (C : HC X G RX0 cX0_mendTold (d2 + 1)) (hCl : CallsOK (ev_l X) G d2 cl ∧ hLm G lm ∧ 8 ≤ d2 ∧ LamsOK (ev_l X) G d2 cl) (S0 : HS0 X h0) (hret : (ev_h X).sig.returnType = (Option.some Jvm.ClassFile.FieldType.int)) (hXn : ev_n X = 8) (hini : True) (hTb : (ev_c X).exceptionTable.toList = []) (hJ27 : ∀ (x0 : Nat) (x1 : Int32) (x2 : Option Nat) (x3 : Int32) (x4 : Int32) (x5 : Int32) (h : HS), J27 x0 x1 x2 x3 x4 x5 h → GH X G h (hQ X G h0 Q E) 27 [(0, .ref x0), (1, .int x1), (2, va_rf x2), (3, .int x3), (4, .int x4), (5, .int x5)] []) (hJ39 : ∀ (x0 : Nat) (x1 : Int32) (x2 : Option Nat) (x3 : Int32) (x4 : Int32) (x5 : Int32) (x6 : Int32) (h : HS), J39 x0 x1 x2 x3 x4 x5 x6 h → GH X G h (hQ X G h0 Q E) 39 [(0, .ref x0), (1, .int x1), (2, va_rf x2), (3, .int x3), (4, .int x4), (5, .int x5), (6, .int x6)] []) : ∀ (x0 : Nat) (x1 : Int32) (x2 : Option Nat) (x3 : Int32) (x5 : Int32) (x6 : Int32) (x7 : Int32) (s0 : Int32) (h : HS), wb_X0_mendTold_108 cl lm Q E J27 J39 x0 x1 x2 x3 x5 x6 x7 s0 h → GH X G h (hQ X G h0 Q E) 108 [(0, .ref x0), (1, .int x1), (2, va_rf x2), (3, .int x3), (5, .int x5), (6, .int x6), (7, .int x7)] [.int s0] := by
  have hlm := hCl.2.1
  have hd8 := hCl.2.2.1
  have hd2 : 1 ≤ d2 := Nat.le_trans (by decide) hd8
  have hLa := hCl.2.2.2
  have hd1 : 1 ≤ d2 + 1 := Nat.le_add_left _ _
  have hC9 := hCl
  replace hCl := hCl.1
  intro x0 x1 x2 x3 x5 x6 x7 s0 h hw
  unfold wb_X0_mendTold_108 at hw
  refine gk_istore (pc := 108) (lv' := [(4, Value.int s0), (0, Value.ref x0), (1, Value.int x1), (2, va_rf x2), (3, Value.int x3), (5, Value.int x5), (6, Value.int x6), (7, Value.int x7)]) C.1 dX0_mendTold_108 (by rw [hXn]; decide) (by first | rfl | simp [va_rf_S, va_rf_cat, cat_i, cat_a, cat_l, cat_f, fin4_0, fin4_1, fin4_2, fin4_3]) ?_
  refine gk_iload_n (pc := 110) C.1 4 dX0_mendTold_110 rfl rfl ?_
  refine gk_iload (pc := 111) C.1 7 dX0_mendTold_111 rfl ?_
  refine gh_mmin (pc := 113) C hd1 q1756 (Nat.le_of_ble_eq_true rfl) dX0_mendTold_113 ?_
  obtain ⟨x_1, ex_1⟩ : ∃ z : Int32, z = (if x7 < x3 then x7 else x3) := ⟨_, rfl⟩
  rw [← ex_1]
  replace hw := hw x_1 ex_1
  refine gk_istore_n (pc := 116) (lv' := [(3, Value.int x_1), (4, Value.int s0), (0, Value.ref x0), (1, Value.int x1), (2, va_rf x2), (5, Value.int x5), (6, Value.int x6), (7, Value.int x7)]) C.1 dX0_mendTold_116 rfl (by rw [hXn]; decide) (by first | rfl | simp [va_rf_S, va_rf_cat, cat_i, cat_a, cat_l, cat_f, fin4_0, fin4_1, fin4_2, fin4_3]) ?_
  obtain ⟨x_2, ex_2⟩ : ∃ z : Int32, z = x6 + 1 := ⟨_, rfl⟩
  replace hw := hw x_2 ex_2
  refine gk_iinc (pc := 117) (v := x_2) (lv' := [(6, Value.int x_2), (3, Value.int x_1), (4, Value.int s0), (0, Value.ref x0), (1, Value.int x1), (2, va_rf x2), (5, Value.int x5), (7, Value.int x7)]) C.1 6 dX0_mendTold_117 rfl (by rw [ex_2]; rfl) (by rw [hXn]; decide) (by first | rfl | simp [va_rf_S, va_rf_cat, cat_i, cat_a, cat_l, cat_f, fin4_0, fin4_1, fin4_2, fin4_3]) ?_
  refine gk_goto (pc := 120) (tgt := 39) C.1 dX0_mendTold_120 (by decide) ?_
  refine GK.sub (lv' := [(0, .ref x0), (1, .int x1), (2, va_rf x2), (3, .int x_1), (4, .int s0), (5, .int x5), (6, .int x_2)]) [3, 4, 5, 1, 2, 6, 0] rfl ?_
  exact hJ39 _ _ _ _ _ _ _ _ hw
def wb_X0_mendTold_140 (cl : CT) (lm : Nat × Nat) (Q : QT) (E : ET) (x4 : Int32) (h : HS) : Prop := Q (some (.int x4)) h
theorem wk_X0_mendTold_140 {X : Ev} {G : GG} {cl : CT} {lm : Nat × Nat} {Q : QT} {E : ET} {h0 : HS} {d2 : Nat} (C : HC X G RX0 cX0_mendTold (d2 + 1)) (hCl : CallsOK (ev_l X) G d2 cl ∧ hLm G lm ∧ 8 ≤ d2 ∧ LamsOK (ev_l X) G d2 cl) (S0 : HS0 X h0) (hret : (ev_h X).sig.returnType = (Option.some Jvm.ClassFile.FieldType.int)) (hXn : ev_n X = 8) (hini : True) (hTb : (ev_c X).exceptionTable.toList = []) : ∀ (x4 : Int32) (h : HS), wb_X0_mendTold_140 cl lm Q E x4 h → GH X G h (hQ X G h0 Q E) 140 [(4, .int x4)] [] := by
  have hlm := hCl.2.1
  have hd8 := hCl.2.2.1
  have hd2 : 1 ≤ d2 := Nat.le_trans (by decide) hd8
  have hLa := hCl.2.2.2
  have hd1 : 1 ≤ d2 + 1 := Nat.le_add_left _ _
  have hC9 := hCl
  replace hCl := hCl.1
  intro x4 h hw
  unfold wb_X0_mendTold_140 at hw
  refine gk_iload (pc := 140) C.1 0 dX0_mendTold_140 rfl ?_
  refine gk_goto (pc := 142) (tgt := 146) C.1 dX0_mendTold_142 (by decide) ?_
  exact gh_iret (pc := 146) C S0 hret dX0_mendTold_146 hw
def wb_X0_mendTold_129 (cl : CT) (lm : Nat × Nat) (Q : QT) (E : ET) (x1 : Int32) (x3 : Int32) (x4 : Int32) (h : HS) : Prop := ((x4 = (-9) → (wb_X0_mendTold_140 cl lm Q E x4 h)) ∧ (¬ x4 = (-9) → (((¬ x1 = 0 → (Q (some (.int x3)) h)) ∧ (x1 = 0 → (wb_X0_mendTold_140 cl lm Q E x4 h))))))
theorem wk_X0_mendTold_129 {X : Ev} {G : GG} {cl : CT} {lm : Nat × Nat} {Q : QT} {E : ET} {h0 : HS} {d2 : Nat} (C : HC X G RX0 cX0_mendTold (d2 + 1)) (hCl : CallsOK (ev_l X) G d2 cl ∧ hLm G lm ∧ 8 ≤ d2 ∧ LamsOK (ev_l X) G d2 cl) (S0 : HS0 X h0) (hret : (ev_h X).sig.returnType = (Option.some Jvm.ClassFile.FieldType.int)) (hXn : ev_n X = 8) (hini : True) (hTb : (ev_c X).exceptionTable.toList = []) : ∀ (x1 : Int32) (x3 : Int32) (x4 : Int32) (h : HS), wb_X0_mendTold_129 cl lm Q E x1 x3 x4 h → GH X G h (hQ X G h0 Q E) 129 [(1, .int x1), (3, .int x3), (4, .int x4)] [] := by
  have hlm := hCl.2.1
  have hd8 := hCl.2.2.1
  have hd2 : 1 ≤ d2 := Nat.le_trans (by decide) hd8
  have hLa := hCl.2.2.2
  have hd1 : 1 ≤ d2 + 1 := Nat.le_add_left _ _
  have hC9 := hCl
  replace hCl := hCl.1
  intro x1 x3 x4 h hw
  unfold wb_X0_mendTold_129 at hw
  refine gk_iload (pc := 129) C.1 2 dX0_mendTold_129 rfl ?_
  refine gk_bipush (pc := 131) (v := (-9)) C.1 dX0_mendTold_131 (by decide) ?_
  refine gk_icmp_eq (pc := 133) (tgt := 140) C.1 dX0_mendTold_133 (by decide) (fun c_1 => ?_) (fun c_1 => ?_)
  · replace hw := hw.1 c_1
    refine GK.sub (lv' := [(4, .int x4)]) [2] rfl ?_
    exact wk_X0_mendTold_140 C hC9 S0 hret hXn hini hTb  _ _ hw
  · replace hw := hw.2 c_1
    refine gk_iload_n (pc := 136) C.1 0 dX0_mendTold_136 rfl rfl ?_
    refine gk_if_ne (pc := 137) (tgt := 145) C.1 dX0_mendTold_137 (by decide) (fun c_2 => ?_) (fun c_2 => ?_)
    · replace hw := hw.1 c_2
      refine gk_iload_n (pc := 145) C.1 1 dX0_mendTold_145 rfl rfl ?_
      exact gh_iret (pc := 146) C S0 hret dX0_mendTold_146 hw
    · replace hw := hw.2 c_2
      refine GK.sub (lv' := [(4, .int x4)]) [2] rfl ?_
      exact wk_X0_mendTold_140 C hC9 S0 hret hXn hini hTb  _ _ hw
def wb_X0_mendTold_39 (cl : CT) (lm : Nat × Nat) (Q : QT) (E : ET) (J27 : Nat → Int32 → Option Nat → Int32 → Int32 → Int32 → HS → Prop) : Nat → Nat → Int32 → Option Nat → Int32 → Int32 → Int32 → Int32 → HS → Prop
  | 0 => fun _ _ _ _ _ _ _ _ => False
  | n + 1 => fun x0 x1 x2 x3 x4 x5 x6 h => ((20 < x6 → (∀ x_2 : Int32, x_2 = x5 + 1 → (J27 x0 x1 x2 x3 x4 x_2 h))) ∧ (¬ 20 < x6 → (((¬ x3 = 0 → (∃ a_4 : Nat, x2 = some a_4 ∧ (dp_Row_at cl a_4 [.int x5] h (gR (fun r_6 h_5 => ck_GathersAllFaults_Part h_5 r_6 ∧ (∃ a_9 : Nat, r_6 = some a_9 ∧ ((hT h_5 a_9 = 6) ∧ (dp_GathersAllFaults_findingWith cl x0 [.int (hI h_5 21 a_9), .int x6] h_5 (gR (fun r_11 h_10 => ∃ a_14 : Nat, r_11 = some a_14 ∧ ((hT h_10 a_14 = 9) ∧ (∀ r_15 : Option Nat, r_15 = hR h_10 28 a_14 → (∃ a_16 : Nat, r_15 = some a_16 ∧ ((hT h_10 a_16 = 7) ∧ (∀ x_17 : Int32, x_17 = hI h_10 24 a_16 → (((x3 ≤ x_17 → (wb_X0_mendTold_108 cl lm Q E J27 (fun yx0 yx1 yx2 yx3 yx4 yx5 yx6 yh => wb_X0_mendTold_39 cl lm Q E J27 n yx0 yx1 yx2 yx3 yx4 yx5 yx6 yh) x0 x1 (some a_4) x3 x5 x6 x_17 x4 h_10)) ∧ (¬ x3 ≤ x_17 → (dp_Row_at cl a_4 [.int x5] h_10 (gR (fun r_20 h_19 => ck_GathersAllFaults_Part h_19 r_20 ∧ (∃ a_23 : Nat, r_20 = some a_23 ∧ ((hT h_19 a_23 = 6) ∧ (wb_X0_mendTold_108 cl lm Q E J27 (fun yx0 yx1 yx2 yx3 yx4 yx5 yx6 yh => wb_X0_mendTold_39 cl lm Q E J27 n yx0 yx1 yx2 yx3 yx4 yx5 yx6 yh) x0 x1 (some a_4) x3 x5 x6 x_17 ((100 * (hI h_19 21 a_23)) + x6) h_19))))) E))))))))))) E))))) E))) ∧ (x3 = 0 → (wb_X0_mendTold_129 cl lm Q E x1 x3 x4 h))))))
theorem wk_X0_mendTold_39 {X : Ev} {G : GG} {cl : CT} {lm : Nat × Nat} {Q : QT} {E : ET} {h0 : HS} {d2 : Nat} {J27 : Nat → Int32 → Option Nat → Int32 → Int32 → Int32 → HS → Prop} (C : HC X G RX0 cX0_mendTold (d2 + 1)) (hCl : CallsOK (ev_l X) G d2 cl ∧ hLm G lm ∧ 8 ≤ d2 ∧ LamsOK (ev_l X) G d2 cl) (S0 : HS0 X h0) (hret : (ev_h X).sig.returnType = (Option.some Jvm.ClassFile.FieldType.int)) (hXn : ev_n X = 8) (hini : True) (hTb : (ev_c X).exceptionTable.toList = []) (hJ27 : ∀ (x0 : Nat) (x1 : Int32) (x2 : Option Nat) (x3 : Int32) (x4 : Int32) (x5 : Int32) (h : HS), J27 x0 x1 x2 x3 x4 x5 h → GH X G h (hQ X G h0 Q E) 27 [(0, .ref x0), (1, .int x1), (2, va_rf x2), (3, .int x3), (4, .int x4), (5, .int x5)] []) : ∀ (n : Nat) (x0 : Nat) (x1 : Int32) (x2 : Option Nat) (x3 : Int32) (x4 : Int32) (x5 : Int32) (x6 : Int32) (h : HS), wb_X0_mendTold_39 cl lm Q E J27 n x0 x1 x2 x3 x4 x5 x6 h → GH X G h (hQ X G h0 Q E) 39 [(0, .ref x0), (1, .int x1), (2, va_rf x2), (3, .int x3), (4, .int x4), (5, .int x5), (6, .int x6)] [] := by
  have hlm := hCl.2.1
  have hd8 := hCl.2.2.1
  have hd2 : 1 ≤ d2 := Nat.le_trans (by decide) hd8
  have hLa := hCl.2.2.2
  have hd1 : 1 ≤ d2 + 1 := Nat.le_add_left _ _
  have hC9 := hCl
  replace hCl := hCl.1
  intro n
  induction n with
  | zero => intro x0 x1 x2 x3 x4 x5 x6 h hw; exact hw.elim
  | succ n ih =>
  intro x0 x1 x2 x3 x4 x5 x6 h hw
  unfold wb_X0_mendTold_39 at hw
  refine gk_iload (pc := 39) C.1 6 dX0_mendTold_39 rfl ?_
  refine gk_bipush (pc := 41) (v := 20) C.1 dX0_mendTold_41 (by decide) ?_
  refine gk_icmp_gt (pc := 43) (tgt := 123) C.1 dX0_mendTold_43 (by decide) (fun c_1 => ?_) (fun c_1 => ?_)
  · replace hw := hw.1 c_1
    obtain ⟨x_2, ex_2⟩ : ∃ z : Int32, z = x5 + 1 := ⟨_, rfl⟩
    replace hw := hw x_2 ex_2
    refine gk_iinc (pc := 123) (v := x_2) (lv' := [(5, Value.int x_2), (0, Value.ref x0), (1, Value.int x1), (2, va_rf x2), (3, Value.int x3), (4, Value.int x4), (6, Value.int x6)]) C.1 5 dX0_mendTold_123 rfl (by rw [ex_2]; rfl) (by rw [hXn]; decide) (by first | rfl | simp [va_rf_S, va_rf_cat, cat_i, cat_a, cat_l, cat_f, fin4_0, fin4_1, fin4_2, fin4_3]) ?_
    refine gk_goto (pc := 126) (tgt := 27) C.1 dX0_mendTold_126 (by decide) ?_
    refine GK.sub (lv' := [(0, .ref x0), (1, .int x1), (2, va_rf x2), (3, .int x3), (4, .int x4), (5, .int x_2)]) [1, 2, 3, 4, 5, 0] rfl ?_
    exact hJ27 _ _ _ _ _ _ _ hw
  · replace hw := hw.2 c_1
    refine gk_iload_n (pc := 46) C.1 3 dX0_mendTold_46 rfl rfl ?_
    refine gk_if_ne (pc := 47) (tgt := 53) C.1 dX0_mendTold_47 (by decide) (fun c_3 => ?_) (fun c_3 => ?_)
    · replace hw := hw.1 c_3
      refine gk_aload_n (pc := 53) C.1 0 dX0_mendTold_53 rfl rfl ?_
      refine gk_qload_n (pc := 54) C.1 2 dX0_mendTold_54 rfl rfl ?_
      refine gk_iload (pc := 55) C.1 5 dX0_mendTold_55 rfl ?_
      obtain ⟨a_4, rfl, hw⟩ := hw
      refine gc_X0_152 (pc := 57) (As := [.int x5]) (rest := [.ref x0]) C hCl (Nat.le_refl _) hw rfl rfl (Nat.le_of_ble_eq_true rfl) dX0_mendTold_57 (fun v9 h_5 hp => ?_) (fun q_7 h_8 hw ht9 => ?_)
      rotate_left
      · exact gx_out C S0 (by rw [hTb]; decide) ht9 hw
      clear hw
      obtain ⟨r_6, rfl, hw⟩ := hp
      refine GK.at (p2 := 60) rfl ?_
      obtain ⟨hs, hw⟩ := hw
      refine gh_ckc (pc := 60) (r := r_6) C q1641 (ck_GathersAllFaults_Part_ok hs) dX0_mendTold_60 ?_
      obtain ⟨a_9, rfl, hw⟩ := hw
      obtain ⟨ht, hw⟩ := hw
      refine gf_X0_157 (pc := 63) C ht dX0_mendTold_63 ?_
      refine gk_iload (pc := 66) C.1 6 dX0_mendTold_66 rfl ?_
      refine gc_X0_282 (pc := 68) (As := [.int (hI h_5 21 a_9), .int x6]) (rest := []) C hCl (Nat.le_refl _) hw rfl rfl (Nat.le_of_ble_eq_true rfl) dX0_mendTold_68 (fun v9 h_10 hp => ?_) (fun q_12 h_13 hw ht9 => ?_)
      rotate_left
      · exact gx_out C S0 (by rw [hTb]; decide) ht9 hw
      clear hw
      obtain ⟨r_11, rfl, hw⟩ := hp
      refine GK.at (p2 := 71) rfl ?_
      obtain ⟨a_14, rfl, hw⟩ := hw
      obtain ⟨ht, hw⟩ := hw
      refine gf_X0_221 (pc := 71) C ht dX0_mendTold_71 (fun r_15 er_15 => ?_)
      replace hw := hw r_15 er_15
      obtain ⟨a_16, rfl, hw⟩ := hw
      obtain ⟨ht, hw⟩ := hw
      refine gf_X0_149 (pc := 74) C ht dX0_mendTold_74 ?_
      obtain ⟨x_17, ex_17⟩ : ∃ z : Int32, z = hI h_10 24 a_16 := ⟨_, rfl⟩
      rw [← ex_17]
      replace hw := hw x_17 ex_17
      refine gk_istore (pc := 77) (lv' := [(7, Value.int x_17), (0, Value.ref x0), (1, Value.int x1), (2, Value.ref a_4), (3, Value.int x3), (4, Value.int x4), (5, Value.int x5), (6, Value.int x6)]) C.1 dX0_mendTold_77 (by rw [hXn]; decide) (by first | rfl | simp [va_rf_S, va_rf_cat, cat_i, cat_a, cat_l, cat_f, fin4_0, fin4_1, fin4_2, fin4_3]) ?_
      refine gk_iload (pc := 79) C.1 0 dX0_mendTold_79 rfl ?_
      refine gk_iload_n (pc := 81) C.1 4 dX0_mendTold_81 rfl rfl ?_
      refine gk_icmp_ge (pc := 82) (tgt := 106) C.1 dX0_mendTold_82 (by decide) (fun c_18 => ?_) (fun c_18 => ?_)
      · replace hw := hw.1 c_18
        refine gk_iload (pc := 106) C.1 5 dX0_mendTold_106 rfl ?_
        refine GK.sub (lv' := [(0, .ref x0), (1, .int x1), (2, va_rf (some a_4)), (3, .int x3), (5, .int x5), (6, .int x6), (7, .int x_17)]) [1, 2, 3, 4, 6, 7, 0] rfl ?_
        exact wk_X0_mendTold_108 C hC9 S0 hret hXn hini hTb hJ27 ih _ _ _ _ _ _ _ _ _ hw
      · replace hw := hw.2 c_18
        refine gk_bipush (pc := 85) (v := 100) C.1 dX0_mendTold_85 (by decide) ?_
        refine gk_aload_n (pc := 87) C.1 3 dX0_mendTold_87 rfl rfl ?_
        refine gk_iload (pc := 88) C.1 6 dX0_mendTold_88 rfl ?_
        refine gc_X0_152 (pc := 90) (As := [.int x5]) (rest := [.int 100]) C hCl (Nat.le_refl _) hw rfl rfl (Nat.le_of_ble_eq_true rfl) dX0_mendTold_90 (fun v9 h_19 hp => ?_) (fun q_21 h_22 hw ht9 => ?_)
        rotate_left
        · exact gx_out C S0 (by rw [hTb]; decide) ht9 hw
        clear hw
        obtain ⟨r_20, rfl, hw⟩ := hp
        refine GK.at (p2 := 93) rfl ?_
        obtain ⟨hs, hw⟩ := hw
        refine gh_ckc (pc := 93) (r := r_20) C q1641 (ck_GathersAllFaults_Part_ok hs) dX0_mendTold_93 ?_
        obtain ⟨a_23, rfl, hw⟩ := hw
        obtain ⟨ht, hw⟩ := hw
        refine gf_X0_157 (pc := 96) C ht dX0_mendTold_96 ?_
        refine gk_imul (pc := 99) C.1 dX0_mendTold_99 ?_
        refine gk_iload (pc := 100) C.1 7 dX0_mendTold_100 rfl ?_
        refine gk_iadd (pc := 102) C.1 dX0_mendTold_102 ?_
        refine gk_goto (pc := 103) (tgt := 108) C.1 dX0_mendTold_103 (by decide) ?_
        refine GK.sub (lv' := [(0, .ref x0), (1, .int x1), (2, va_rf (some a_4)), (3, .int x3), (5, .int x5), (6, .int x6), (7, .int x_17)]) [1, 2, 3, 4, 6, 7, 0] rfl ?_
        exact wk_X0_mendTold_108 C hC9 S0 hret hXn hini hTb hJ27 ih _ _ _ _ _ _ _ _ _ hw
    · replace hw := hw.2 c_3
      refine gk_goto (pc := 50) (tgt := 129) C.1 dX0_mendTold_50 (by decide) ?_
      refine GK.sub (lv' := [(1, .int x1), (3, .int x3), (4, .int x4)]) [1, 3, 4] rfl ?_
      exact wk_X0_mendTold_129 C hC9 S0 hret hXn hini hTb  _ _ _ _ hw
def wb_X0_mendTold_27 (cl : CT) (lm : Nat × Nat) (Q : QT) (E : ET) : Nat → Nat → Int32 → Option Nat → Int32 → Int32 → Int32 → HS → Prop
  | 0 => fun _ _ _ _ _ _ _ => False
  | n + 1 => fun x0 x1 x2 x3 x4 x5 h => ∃ a_1 : Nat, x2 = some a_1 ∧ ((hT h a_1 = 7) ∧ ((((hI h 24 a_1) ≤ x5 → (wb_X0_mendTold_129 cl lm Q E x1 x3 x4 h)) ∧ (¬ (hI h 24 a_1) ≤ x5 → (∃ fu : Nat, wb_X0_mendTold_39 cl lm Q E (fun yx0 yx1 yx2 yx3 yx4 yx5 yh => wb_X0_mendTold_27 cl lm Q E n yx0 yx1 yx2 yx3 yx4 yx5 yh) fu x0 x1 (some a_1) x3 x4 x5 0 h)))))
theorem wk_X0_mendTold_27 {X : Ev} {G : GG} {cl : CT} {lm : Nat × Nat} {Q : QT} {E : ET} {h0 : HS} {d2 : Nat} (C : HC X G RX0 cX0_mendTold (d2 + 1)) (hCl : CallsOK (ev_l X) G d2 cl ∧ hLm G lm ∧ 8 ≤ d2 ∧ LamsOK (ev_l X) G d2 cl) (S0 : HS0 X h0) (hret : (ev_h X).sig.returnType = (Option.some Jvm.ClassFile.FieldType.int)) (hXn : ev_n X = 8) (hini : True) (hTb : (ev_c X).exceptionTable.toList = []) : ∀ (n : Nat) (x0 : Nat) (x1 : Int32) (x2 : Option Nat) (x3 : Int32) (x4 : Int32) (x5 : Int32) (h : HS), wb_X0_mendTold_27 cl lm Q E n x0 x1 x2 x3 x4 x5 h → GH X G h (hQ X G h0 Q E) 27 [(0, .ref x0), (1, .int x1), (2, va_rf x2), (3, .int x3), (4, .int x4), (5, .int x5)] [] := by
  have hlm := hCl.2.1
  have hd8 := hCl.2.2.1
  have hd2 : 1 ≤ d2 := Nat.le_trans (by decide) hd8
  have hLa := hCl.2.2.2
  have hd1 : 1 ≤ d2 + 1 := Nat.le_add_left _ _
  have hC9 := hCl
  replace hCl := hCl.1
  intro n
  induction n with
  | zero => intro x0 x1 x2 x3 x4 x5 h hw; exact hw.elim
  | succ n ih =>
  intro x0 x1 x2 x3 x4 x5 h hw
  unfold wb_X0_mendTold_27 at hw
  refine gk_iload (pc := 27) C.1 5 dX0_mendTold_27 rfl ?_
  refine gk_qload_n (pc := 29) C.1 2 dX0_mendTold_29 rfl rfl ?_
  obtain ⟨a_1, rfl, hw⟩ := hw
  obtain ⟨ht, hw⟩ := hw
  refine gf_X0_149 (pc := 30) C ht dX0_mendTold_30 ?_
  refine gk_icmp_ge (pc := 33) (tgt := 129) C.1 dX0_mendTold_33 (by decide) (fun c_2 => ?_) (fun c_2 => ?_)
  · replace hw := hw.1 c_2
    refine GK.sub (lv' := [(1, .int x1), (3, .int x3), (4, .int x4)]) [1, 3, 4] rfl ?_
    exact wk_X0_mendTold_129 C hC9 S0 hret hXn hini hTb  _ _ _ _ hw
  · replace hw := hw.2 c_2
    refine gk_iconst (pc := 36) (v := 0) C.1 dX0_mendTold_36 (by decide) ?_
    refine gk_istore (pc := 37) (lv' := [(6, Value.int 0), (0, Value.ref x0), (1, Value.int x1), (2, Value.ref a_1), (3, Value.int x3), (4, Value.int x4), (5, Value.int x5)]) C.1 dX0_mendTold_37 (by rw [hXn]; decide) (by first | rfl | simp [va_rf_S, va_rf_cat, cat_i, cat_a, cat_l, cat_f, fin4_0, fin4_1, fin4_2, fin4_3]) ?_
    refine GK.sub (lv' := [(0, .ref x0), (1, .int x1), (2, va_rf (some a_1)), (3, .int x3), (4, .int x4), (5, .int x5), (6, .int 0)]) [1, 2, 3, 4, 5, 6, 0] rfl ?_
    obtain ⟨n9, hw⟩ := hw
    exact wk_X0_mendTold_39 C hC9 S0 hret hXn hini hTb ih n9 _ _ _ _ _ _ _ _ hw
def wb_X0_mendTold (cl : CT) (lm : Nat × Nat) (Q : QT) (E : ET) (x0 : Nat) (x1 : Int32) (h : HS) : Prop := cl 105 [.int x1] h (gV (fun h_1 => dp_GathersAllFaults_parts cl x0 [] h_1 (gR (fun r_5 h_4 => dp_GathersAllFaults_found cl x0 [] h_4 (gR (fun r_9 h_8 => ∃ a_12 : Nat, r_9 = some a_12 ∧ ((hT h_8 a_12 = 9) ∧ (∀ r_13 : Option Nat, r_13 = hR h_8 28 a_12 → (∃ a_14 : Nat, r_13 = some a_14 ∧ ((hT h_8 a_14 = 7) ∧ (∀ x_15 : Int32, x_15 = hI h_8 24 a_14 → (∃ fu : Nat, wb_X0_mendTold_27 cl lm Q E fu x0 x1 r_5 x_15 (-9) 0 h_8)))))))) E)) E)) E
theorem wx_X0_mendTold {l : Launch} (hst : l.stackTraces = false) {G : GG} {cl : CT} {lm : Nat × Nat} {Q : QT} {E : ET} {d2 : Nat} (hCl : CallsOK l G d2 cl ∧ hLm G lm ∧ 8 ≤ d2 ∧ LamsOK l G d2 cl) {x0 : Nat} {x1 : Int32} {h : HS} (hw : wb_X0_mendTold cl lm Q E x0 x1 h) : HMet l G yX0_mendTold (ws_ yX0_mendTold cX0_mendTold 8 ((Option.some Jvm.ClassFile.FieldType.int))) (d2 + 1) [.ref x0, .int x1] h Q E := by
  refine gh_met (own := RX0) rfl (by decide +kernel) hst (by simp only [lg_sl_i, lg_sl_r, lg_sl_a, lg_sl_2, lg_sl_f, lg_sl_0]; decide) (fun X hXl hXn hret hnm hTb h0 eh C S0 => ?_)
  subst hXl
  have hlm := hCl.2.1
  have hd8 := hCl.2.2.1
  have hd2 : 1 ≤ d2 := Nat.le_trans (by decide) hd8
  have hLa := hCl.2.2.2
  have hd1 : 1 ≤ d2 + 1 := Nat.le_add_left _ _
  have hC9 := hCl
  replace hCl := hCl.1
  have hini : True := trivial
  unfold wb_X0_mendTold at hw
  refine GK.sub (lv' := [(0, .ref x0), (1, .int x1)]) [0, 1] (by simp only [lv_args_i, lv_args_r, lv_args_a, lv_args_l, lv_args_f, lv_args_0]; rfl) ?_
  refine gk_iload_n (pc := 0) C.1 1 dX0_mendTold_0 rfl rfl ?_
  refine gc_X0_226 (pc := 1) (As := [.int x1]) (rest := []) C hCl (Nat.le_refl _) hw rfl rfl (Nat.le_of_ble_eq_true rfl) dX0_mendTold_1 (fun v9 h_1 hp => ?_) (fun q_2 h_3 hw ht9 => ?_)
  rotate_left
  · exact gx_out C S0 (by rw [hTb]; decide) ht9 hw
  clear hw
  obtain ⟨rfl, hw⟩ := hp
  refine GK.at (p2 := 4) rfl ?_
  refine gk_aload_n (pc := 4) C.1 0 dX0_mendTold_4 rfl rfl ?_
  refine gc_X0_145 (pc := 5) (As := []) (rest := []) C hCl (Nat.le_refl _) hw rfl rfl (Nat.le_of_ble_eq_true rfl) dX0_mendTold_5 (fun v9 h_4 hp => ?_) (fun q_6 h_7 hw ht9 => ?_)
  rotate_left
  · exact gx_out C S0 (by rw [hTb]; decide) ht9 hw
  clear hw
  obtain ⟨r_5, rfl, hw⟩ := hp
  refine GK.at (p2 := 8) rfl ?_
  refine gk_qstore_n (pc := 8) (lv' := [(2, va_rf r_5), (0, Value.ref x0), (1, Value.int x1)]) C.1 dX0_mendTold_8 rfl (by rw [hXn]; decide) (by first | rfl | simp [va_rf_S, va_rf_cat, cat_i, cat_a, cat_l, cat_f, fin4_0, fin4_1, fin4_2, fin4_3]) ?_
  refine gk_aload_n (pc := 9) C.1 1 dX0_mendTold_9 rfl rfl ?_
  refine gc_X0_229 (pc := 10) (As := []) (rest := []) C hCl (Nat.le_refl _) hw rfl rfl (Nat.le_of_ble_eq_true rfl) dX0_mendTold_10 (fun v9 h_8 hp => ?_) (fun q_10 h_11 hw ht9 => ?_)
  rotate_left
  · exact gx_out C S0 (by rw [hTb]; decide) ht9 hw
  clear hw
  obtain ⟨r_9, rfl, hw⟩ := hp
  refine GK.at (p2 := 13) rfl ?_
  obtain ⟨a_12, rfl, hw⟩ := hw
  obtain ⟨ht, hw⟩ := hw
  refine gf_X0_221 (pc := 13) C ht dX0_mendTold_13 (fun r_13 er_13 => ?_)
  replace hw := hw r_13 er_13
  obtain ⟨a_14, rfl, hw⟩ := hw
  obtain ⟨ht, hw⟩ := hw
  refine gf_X0_149 (pc := 16) C ht dX0_mendTold_16 ?_
  obtain ⟨x_15, ex_15⟩ : ∃ z : Int32, z = hI h_8 24 a_14 := ⟨_, rfl⟩
  rw [← ex_15]
  replace hw := hw x_15 ex_15
  refine gk_istore_n (pc := 19) (lv' := [(3, Value.int x_15), (2, va_rf r_5), (0, Value.ref x0), (1, Value.int x1)]) C.1 dX0_mendTold_19 rfl (by rw [hXn]; decide) (by first | rfl | simp [va_rf_S, va_rf_cat, cat_i, cat_a, cat_l, cat_f, fin4_0, fin4_1, fin4_2, fin4_3]) ?_
  refine gk_bipush (pc := 20) (v := (-9)) C.1 dX0_mendTold_20 (by decide) ?_
  refine gk_istore (pc := 22) (lv' := [(4, Value.int (-9)), (3, Value.int x_15), (2, va_rf r_5), (0, Value.ref x0), (1, Value.int x1)]) C.1 dX0_mendTold_22 (by rw [hXn]; decide) (by first | rfl | simp [va_rf_S, va_rf_cat, cat_i, cat_a, cat_l, cat_f, fin4_0, fin4_1, fin4_2, fin4_3]) ?_
  refine gk_iconst (pc := 24) (v := 0) C.1 dX0_mendTold_24 (by decide) ?_
  refine gk_istore (pc := 25) (lv' := [(5, Value.int 0), (4, Value.int (-9)), (3, Value.int x_15), (2, va_rf r_5), (0, Value.ref x0), (1, Value.int x1)]) C.1 dX0_mendTold_25 (by rw [hXn]; decide) (by first | rfl | simp [va_rf_S, va_rf_cat, cat_i, cat_a, cat_l, cat_f, fin4_0, fin4_1, fin4_2, fin4_3]) ?_
  refine GK.sub (lv' := [(0, .ref x0), (1, .int x1), (2, va_rf r_5), (3, .int x_15), (4, .int (-9)), (5, .int 0)]) [4, 5, 3, 2, 1, 0] rfl ?_
  obtain ⟨n9, hw⟩ := hw
  exact wk_X0_mendTold_27 C hC9 S0 hret hXn hini hTb  n9 _ _ _ _ _ _ _ hw
/-! 104: GathersAllFaults.must(ZI)V -/
def wb_X0_must (cl : CT) (lm : Nat × Nat) (Q : QT) (E : ET) (x0 : Int32) (x1 : Int32) (h : HS) : Prop := ((¬ x0 = 0 → (Q none h)) ∧ (x0 = 0 → (hZ h + 1 ≤ lm.1 ∧ (hL h + 7 ≤ lm.2 ∧ (∀ (a_3 : Nat) (h_2 : HS), a_3 = hZ h → h_2 = hNew h 16 0 7 → (cl 179 (.ref a_3 :: [.int x1]) h_2 (gV (fun h_4 => (hT h_4 a_3 = 16 ∨ hT h_4 a_3 = 17) ∧ (E a_3 h_4))) E))))))
theorem wx_X0_must {l : Launch} (hst : l.stackTraces = false) {G : GG} {cl : CT} {lm : Nat × Nat} {Q : QT} {E : ET} {d2 : Nat} (hCl : CallsOK l G d2 cl ∧ hLm G lm ∧ 8 ≤ d2 ∧ LamsOK l G d2 cl) {x0 : Int32} {x1 : Int32} {h : HS} (hw : wb_X0_must cl lm Q E x0 x1 h) : HMet l G yX0_must (ws_ yX0_must cX0_must 2 ((Option.none : Option Jvm.ClassFile.FieldType))) (d2 + 1) [.int x0, .int x1] h Q E := by
  refine gh_met (own := RX0) rfl (by decide +kernel) hst (by simp only [lg_sl_i, lg_sl_r, lg_sl_a, lg_sl_2, lg_sl_f, lg_sl_0]; decide) (fun X hXl hXn hret hnm hTb h0 eh C S0 => ?_)
  subst hXl
  have hlm := hCl.2.1
  have hd8 := hCl.2.2.1
  have hd2 : 1 ≤ d2 := Nat.le_trans (by decide) hd8
  have hLa := hCl.2.2.2
  have hd1 : 1 ≤ d2 + 1 := Nat.le_add_left _ _
  have hC9 := hCl
  replace hCl := hCl.1
  have hini : True := trivial
  unfold wb_X0_must at hw
  refine GK.sub (lv' := [(0, .int x0), (1, .int x1)]) [0, 1] (by simp only [lv_args_i, lv_args_r, lv_args_a, lv_args_l, lv_args_f, lv_args_0]; rfl) ?_
  refine gk_iload_n (pc := 0) C.1 0 dX0_must_0 rfl rfl ?_
  refine gk_if_ne (pc := 1) (tgt := 13) C.1 dX0_must_1 (by decide) (fun c_1 => ?_) (fun c_1 => ?_)
  · replace hw := hw.1 c_1
    exact gh_vret (pc := 13) C S0 hret dX0_must_13 hw
  · replace hw := hw.2 c_1
    obtain ⟨hr1, hr2, hw⟩ := hw
    refine gn_X0_1 (pc := 4) C (hlm.1 ▸ hr1) (hlm.2 ▸ hr2) dX0_must_4 (fun h_2 eh_2 => ?_)
    obtain ⟨a_3, ea_3⟩ : ∃ z : Nat, z = hZ h := ⟨_, rfl⟩
    rw [← ea_3]
    replace hw := hw a_3 h_2 ea_3 eh_2
    refine gk_dup (pc := 7) C.1 dX0_must_7 rfl ?_
    refine gk_iload_n (pc := 8) C.1 1 dX0_must_8 rfl rfl ?_
    refine gc_X0_3 (pc := 9) (As := [.int x1]) (rest := [.ref a_3]) C hCl (Nat.le_refl _) hw rfl rfl (Nat.le_of_ble_eq_true rfl) dX0_must_9 (fun v9 h_4 hp => ?_) (fun q_5 h_6 hw ht9 => ?_)
    rotate_left
    · exact gx_out C S0 (by rw [hTb]; decide) ht9 hw
    clear hw
    obtain ⟨rfl, hw⟩ := hp
    refine GK.at (p2 := 12) rfl ?_
    refine gh_athrow (pc := 12) C dX0_must_12 ?_
    obtain ⟨ht9, hw⟩ := hw
    exact gx_out C S0 (by rw [hTb]; decide) ht9 hw
/-! 105: GathersAllFaults.mustBeBit(I)V -/
def wb_X0_mustBeBit (cl : CT) (lm : Nat × Nat) (Q : QT) (E : ET) (x0 : Int32) (h : HS) : Prop := cl 78 [.long ((x0 : Int32).toInt64), .long 0, .long 1] h (gI (fun r_2 h_1 => cl 104 [.int r_2, .int (-2)] h_1 (gV (fun h_5 => Q none h_5)) E)) E
theorem wx_X0_mustBeBit {l : Launch} (hst : l.stackTraces = false) {G : GG} {cl : CT} {lm : Nat × Nat} {Q : QT} {E : ET} {d2 : Nat} (hCl : CallsOK l G d2 cl ∧ hLm G lm ∧ 8 ≤ d2 ∧ LamsOK l G d2 cl) {x0 : Int32} {h : HS} (hw : wb_X0_mustBeBit cl lm Q E x0 h) : HMet l G yX0_mustBeBit (ws_ yX0_mustBeBit cX0_mustBeBit 1 ((Option.none : Option Jvm.ClassFile.FieldType))) (d2 + 1) [.int x0] h Q E := by
  refine gh_met (own := RX0) rfl (by decide +kernel) hst (by simp only [lg_sl_i, lg_sl_r, lg_sl_a, lg_sl_2, lg_sl_f, lg_sl_0]; decide) (fun X hXl hXn hret hnm hTb h0 eh C S0 => ?_)
  subst hXl
  have hlm := hCl.2.1
  have hd8 := hCl.2.2.1
  have hd2 : 1 ≤ d2 := Nat.le_trans (by decide) hd8
  have hLa := hCl.2.2.2
  have hd1 : 1 ≤ d2 + 1 := Nat.le_add_left _ _
  have hC9 := hCl
  replace hCl := hCl.1
  have hini : True := trivial
  unfold wb_X0_mustBeBit at hw
  refine GK.sub (lv' := [(0, .int x0)]) [0] (by simp only [lv_args_i, lv_args_r, lv_args_a, lv_args_l, lv_args_f, lv_args_0]; rfl) ?_
  refine gk_iload_n (pc := 0) C.1 0 dX0_mustBeBit_0 rfl rfl ?_
  refine gk_i2l (pc := 1) C.1 dX0_mustBeBit_1 ?_
  refine gk_lconst (pc := 2) (v := 0) C.1 dX0_mustBeBit_2 (by decide) ?_
  refine gk_lconst (pc := 3) (v := 1) C.1 dX0_mustBeBit_3 (by decide) ?_
  refine gc_X0_13 (pc := 4) (As := [.long ((x0 : Int32).toInt64), .long 0, .long 1]) (rest := []) C hCl (Nat.le_refl _) hw rfl rfl (Nat.le_of_ble_eq_true rfl) dX0_mustBeBit_4 (fun v9 h_1 hp => ?_) (fun q_3 h_4 hw ht9 => ?_)
  rotate_left
  · exact gx_out C S0 (by rw [hTb]; decide) ht9 hw
  clear hw
  obtain ⟨r_2, rfl, hw⟩ := hp
  refine GK.at (p2 := 7) rfl ?_
  refine gk_bipush (pc := 7) (v := (-2)) C.1 dX0_mustBeBit_7 (by decide) ?_
  refine gc_X0_9 (pc := 9) (As := [.int r_2, .int (-2)]) (rest := []) C hCl (Nat.le_refl _) hw rfl rfl (Nat.le_of_ble_eq_true rfl) dX0_mustBeBit_9 (fun v9 h_5 hp => ?_) (fun q_6 h_7 hw ht9 => ?_)
  rotate_left
  · exact gx_out C S0 (by rw [hTb]; decide) ht9 hw
  clear hw
  obtain ⟨rfl, hw⟩ := hp
  refine GK.at (p2 := 12) rfl ?_
  exact gh_vret (pc := 12) C S0 hret dX0_mustBeBit_12 hw
/-! 106: GathersAllFaults.numberLook(II)LGathersAllFaults$Look; -/
def wb_X0_numberLook (cl : CT) (lm : Nat × Nat) (Q : QT) (E : ET) (x0 : Int32) (x1 : Int32) (h : HS) : Prop := hZ h + 1 ≤ lm.1 ∧ (hL h + 2 ≤ lm.2 ∧ (∀ (a_1 : Nat) (h_2 : HS), a_1 = hZ h → h_2 = sI (sI (hNew h 202 0 2) 86 (hZ h) x0) 87 (hZ h) x1 → (Q (some (va_rf (some a_1))) h_2)))
theorem wx_X0_numberLook {l : Launch} (hst : l.stackTraces = false) {G : GG} {cl : CT} {lm : Nat × Nat} {Q : QT} {E : ET} {d2 : Nat} (hCl : CallsOK l G d2 cl ∧ hLm G lm ∧ 8 ≤ d2 ∧ LamsOK l G d2 cl) {x0 : Int32} {x1 : Int32} {h : HS} (hw : wb_X0_numberLook cl lm Q E x0 x1 h) : HMet l G yX0_numberLook (ws_ yX0_numberLook cX0_numberLook 2 ((Option.some (Jvm.ClassFile.FieldType.object "GathersAllFaults$Look")))) (d2 + 1) [.int x0, .int x1] h Q E := by
  refine gh_met (own := RX0) rfl (by decide +kernel) hst (by simp only [lg_sl_i, lg_sl_r, lg_sl_a, lg_sl_2, lg_sl_f, lg_sl_0]; decide) (fun X hXl hXn hret hnm hTb h0 eh C S0 => ?_)
  subst hXl
  have hlm := hCl.2.1
  have hd8 := hCl.2.2.1
  have hd2 : 1 ≤ d2 := Nat.le_trans (by decide) hd8
  have hLa := hCl.2.2.2
  have hd1 : 1 ≤ d2 + 1 := Nat.le_add_left _ _
  have hC9 := hCl
  replace hCl := hCl.1
  have hini : (ev_s X).methodNamed? yX0_numberLook = some (ev_m X) := hnm.2
  unfold wb_X0_numberLook at hw
  refine GK.sub (lv' := [(0, .int x0), (1, .int x1)]) [0, 1] (by simp only [lv_args_i, lv_args_r, lv_args_a, lv_args_l, lv_args_f, lv_args_0]; rfl) ?_
  refine gk_iload_n (pc := 0) C.1 0 dX0_numberLook_0 rfl rfl ?_
  refine gk_iload_n (pc := 1) C.1 1 dX0_numberLook_1 rfl rfl ?_
  obtain ⟨hr1, hr2, hw⟩ := hw
  refine gd_2 (v0 := x0) (v1 := x1) C hini (hlm.1 ▸ hr1) (hlm.2 ▸ hr2) (Nat.le_of_ble_eq_true rfl) dX0_numberLook_2 (fun a_1 h_2 ea_1 eh_2 => ?_)
  replace hw := hw a_1 h_2 ea_1 eh_2
  exact gh_aret (pc := 7) (r := (some a_1)) C S0 hret (Or.inl ⟨_, rfl⟩) dX0_numberLook_7 hw
/-! 107: GathersAllFaults.numbersOf()I -/
def wb_X0_numbersOf_40 (cl : CT) (lm : Nat × Nat) (Q : QT) (E : ET) (J9 : Option Nat → Int32 → Int32 → HS → Prop) (x1 : Option Nat) (x3 : Int32) (s0 : Int32) (s1 : Int32) (h : HS) : Prop := ∀ x_1 : Int32, x_1 = s0 + s1 → (∀ x_2 : Int32, x_2 = x3 + 1 → (J9 x1 x_1 x_2 h))
theorem wk_X0_numbersOf_40 {X : Ev} {G : GG} {cl : CT} {lm : Nat × Nat} {Q : QT} {E : ET} {h0 : HS} {d2 : Nat} {J9 : Option Nat → Int32 → Int32 → HS → Prop} (C : HC X G RX0 cX0_numbersOf (d2 + 1)) (hCl : CallsOK (ev_l X) G d2 cl ∧ hLm G lm ∧ 8 ≤ d2 ∧ LamsOK (ev_l X) G d2 cl) (S0 : HS0 X h0) (hret : (ev_h X).sig.returnType = (Option.some Jvm.ClassFile.FieldType.int)) (hXn : ev_n X = 4) (hini : True) (hTb : (ev_c X).exceptionTable.toList = []) (hJ9 : ∀ (x1 : Option Nat) (x2 : Int32) (x3 : Int32) (h : HS), J9 x1 x2 x3 h → GH X G h (hQ X G h0 Q E) 9 [(1, va_rf x1), (2, .int x2), (3, .int x3)] []) : ∀ (x1 : Option Nat) (x3 : Int32) (s0 : Int32) (s1 : Int32) (h : HS), wb_X0_numbersOf_40 cl lm Q E J9 x1 x3 s0 s1 h → GH X G h (hQ X G h0 Q E) 40 [(1, va_rf x1), (3, .int x3)] [.int s1, .int s0] := by
  have hlm := hCl.2.1
  have hd8 := hCl.2.2.1
  have hd2 : 1 ≤ d2 := Nat.le_trans (by decide) hd8
  have hLa := hCl.2.2.2
  have hd1 : 1 ≤ d2 + 1 := Nat.le_add_left _ _
  have hC9 := hCl
  replace hCl := hCl.1
  intro x1 x3 s0 s1 h hw
  unfold wb_X0_numbersOf_40 at hw
  refine gk_iadd (pc := 40) C.1 dX0_numbersOf_40 ?_
  obtain ⟨x_1, ex_1⟩ : ∃ z : Int32, z = s0 + s1 := ⟨_, rfl⟩
  rw [← ex_1]
  replace hw := hw x_1 ex_1
  refine gk_istore_n (pc := 41) (lv' := [(2, Value.int x_1), (1, va_rf x1), (3, Value.int x3)]) C.1 dX0_numbersOf_41 rfl (by rw [hXn]; decide) (by first | rfl | simp [va_rf_S, va_rf_cat, cat_i, cat_a, cat_l, cat_f, fin4_0, fin4_1, fin4_2, fin4_3]) ?_
  obtain ⟨x_2, ex_2⟩ : ∃ z : Int32, z = x3 + 1 := ⟨_, rfl⟩
  replace hw := hw x_2 ex_2
  refine gk_iinc (pc := 42) (v := x_2) (lv' := [(3, Value.int x_2), (2, Value.int x_1), (1, va_rf x1)]) C.1 2 dX0_numbersOf_42 rfl (by rw [ex_2]; rfl) (by rw [hXn]; decide) (by first | rfl | simp [va_rf_S, va_rf_cat, cat_i, cat_a, cat_l, cat_f, fin4_0, fin4_1, fin4_2, fin4_3]) ?_
  refine gk_goto (pc := 45) (tgt := 9) C.1 dX0_numbersOf_45 (by decide) ?_
  refine GK.sub (lv' := [(1, va_rf x1), (2, .int x_1), (3, .int x_2)]) [2, 1, 0] rfl ?_
  exact hJ9 _ _ _ _ hw
def wb_X0_numbersOf_9 (cl : CT) (lm : Nat × Nat) (Q : QT) (E : ET) : Nat → Option Nat → Int32 → Int32 → HS → Prop
  | 0 => fun _ _ _ _ => False
  | n + 1 => fun x1 x2 x3 h => ∃ a_1 : Nat, x1 = some a_1 ∧ ((hT h a_1 = 7) ∧ ((((hI h 24 a_1) ≤ x3 → (Q (some (.int x2)) h)) ∧ (¬ (hI h 24 a_1) ≤ x3 → (dp_Row_at cl a_1 [.int x3] h (gR (fun r_4 h_3 => ck_GathersAllFaults_Part h_3 r_4 ∧ (∃ a_7 : Nat, r_4 = some a_7 ∧ ((hT h_3 a_7 = 6) ∧ (∀ r_8 : Option Nat, r_8 = hR h_3 22 a_7 → ((∃ a_9 : Nat, r_8 = some a_9 ∧ ((hT h_3 a_9 = 2) ∧ (wb_X0_numbersOf_40 cl lm Q E (fun yx1 yx2 yx3 yh => wb_X0_numbersOf_9 cl lm Q E n yx1 yx2 yx3 yh) (some a_1) x3 x2 1 h_3))) ∨ ((∀ a_9 : Nat, r_8 = some a_9 → (hT h_3 a_9 = 3 ∨ hT h_3 a_9 = 4 ∨ hT h_3 a_9 = 5 ∨ hT h_3 a_9 = 300)) ∧ (wb_X0_numbersOf_40 cl lm Q E (fun yx1 yx2 yx3 yh => wb_X0_numbersOf_9 cl lm Q E n yx1 yx2 yx3 yh) (some a_1) x3 x2 0 h_3)))))))) E)))))
theorem wk_X0_numbersOf_9 {X : Ev} {G : GG} {cl : CT} {lm : Nat × Nat} {Q : QT} {E : ET} {h0 : HS} {d2 : Nat} (C : HC X G RX0 cX0_numbersOf (d2 + 1)) (hCl : CallsOK (ev_l X) G d2 cl ∧ hLm G lm ∧ 8 ≤ d2 ∧ LamsOK (ev_l X) G d2 cl) (S0 : HS0 X h0) (hret : (ev_h X).sig.returnType = (Option.some Jvm.ClassFile.FieldType.int)) (hXn : ev_n X = 4) (hini : True) (hTb : (ev_c X).exceptionTable.toList = []) : ∀ (n : Nat) (x1 : Option Nat) (x2 : Int32) (x3 : Int32) (h : HS), wb_X0_numbersOf_9 cl lm Q E n x1 x2 x3 h → GH X G h (hQ X G h0 Q E) 9 [(1, va_rf x1), (2, .int x2), (3, .int x3)] [] := by
  have hlm := hCl.2.1
  have hd8 := hCl.2.2.1
  have hd2 : 1 ≤ d2 := Nat.le_trans (by decide) hd8
  have hLa := hCl.2.2.2
  have hd1 : 1 ≤ d2 + 1 := Nat.le_add_left _ _
  have hC9 := hCl
  replace hCl := hCl.1
  intro n
  induction n with
  | zero => intro x1 x2 x3 h hw; exact hw.elim
  | succ n ih =>
  intro x1 x2 x3 h hw
  unfold wb_X0_numbersOf_9 at hw
  refine gk_iload_n (pc := 9) C.1 2 dX0_numbersOf_9 rfl rfl ?_
  refine gk_qload_n (pc := 10) C.1 0 dX0_numbersOf_10 rfl rfl ?_
  obtain ⟨a_1, rfl, hw⟩ := hw
  obtain ⟨ht, hw⟩ := hw
  refine gf_X0_149 (pc := 11) C ht dX0_numbersOf_11 ?_
  refine gk_icmp_ge (pc := 14) (tgt := 48) C.1 dX0_numbersOf_14 (by decide) (fun c_2 => ?_) (fun c_2 => ?_)
  · replace hw := hw.1 c_2
    refine gk_iload_n (pc := 48) C.1 1 dX0_numbersOf_48 rfl rfl ?_
    exact gh_iret (pc := 49) C S0 hret dX0_numbersOf_49 hw
  · replace hw := hw.2 c_2
    refine gk_iload_n (pc := 17) C.1 1 dX0_numbersOf_17 rfl rfl ?_
    refine gk_aload_n (pc := 18) C.1 0 dX0_numbersOf_18 rfl rfl ?_
    refine gk_iload_n (pc := 19) C.1 2 dX0_numbersOf_19 rfl rfl ?_
    refine gc_X0_152 (pc := 20) (As := [.int x3]) (rest := [.int x2]) C hCl (Nat.le_refl _) hw rfl rfl (Nat.le_of_ble_eq_true rfl) dX0_numbersOf_20 (fun v9 h_3 hp => ?_) (fun q_5 h_6 hw ht9 => ?_)
    rotate_left
    · exact gx_out C S0 (by rw [hTb]; decide) ht9 hw
    clear hw
    obtain ⟨r_4, rfl, hw⟩ := hp
    refine GK.at (p2 := 23) rfl ?_
    obtain ⟨hs, hw⟩ := hw
    refine gh_ckc (pc := 23) (r := r_4) C q1641 (ck_GathersAllFaults_Part_ok hs) dX0_numbersOf_23 ?_
    obtain ⟨a_7, rfl, hw⟩ := hw
    obtain ⟨ht, hw⟩ := hw
    refine gf_X0_160 (pc := 26) C ht dX0_numbersOf_26 (fun r_8 er_8 => ?_)
    replace hw := hw r_8 er_8
    rcases hw with ⟨a_9, rfl, hs, hw⟩ | ⟨hs, hw⟩
    · skip
      refine gi_X0_48_y (pc := 29) C hs dX0_numbersOf_29 ?_
      refine gk_if_eq (pc := 32) (tgt := 39) C.1 dX0_numbersOf_32 (by decide) (fun c9 => ?_) (fun c9 => ?_)
      · exact absurd c9 (by decide)
      refine gk_iconst (pc := 35) (v := 1) C.1 dX0_numbersOf_35 (by decide) ?_
      refine gk_goto (pc := 36) (tgt := 40) C.1 dX0_numbersOf_36 (by decide) ?_
      refine GK.sub (lv' := [(1, va_rf (some a_1)), (3, .int x3)]) [0, 2] rfl ?_
      exact wk_X0_numbersOf_40 C hC9 S0 hret hXn hini hTb ih _ _ _ _ _ hw
    · refine gi_X0_48_n (pc := 29) (r := r_8) C hs dX0_numbersOf_29 ?_
      refine gk_if_eq (pc := 32) (tgt := 39) C.1 dX0_numbersOf_32 (by decide) (fun c9 => ?_) (fun c9 => ?_)
      rotate_left
      · exact absurd rfl c9
      refine gk_iconst (pc := 39) (v := 0) C.1 dX0_numbersOf_39 (by decide) ?_
      refine GK.sub (lv' := [(1, va_rf (some a_1)), (3, .int x3)]) [0, 2] rfl ?_
      exact wk_X0_numbersOf_40 C hC9 S0 hret hXn hini hTb ih _ _ _ _ _ hw
def wb_X0_numbersOf (cl : CT) (lm : Nat × Nat) (Q : QT) (E : ET) (x0 : Nat) (h : HS) : Prop := dp_GathersAllFaults_parts cl x0 [] h (gR (fun r_2 h_1 => ∃ fu : Nat, wb_X0_numbersOf_9 cl lm Q E fu r_2 0 0 h_1)) E
theorem wx_X0_numbersOf {l : Launch} (hst : l.stackTraces = false) {G : GG} {cl : CT} {lm : Nat × Nat} {Q : QT} {E : ET} {d2 : Nat} (hCl : CallsOK l G d2 cl ∧ hLm G lm ∧ 8 ≤ d2 ∧ LamsOK l G d2 cl) {x0 : Nat} {h : HS} (hw : wb_X0_numbersOf cl lm Q E x0 h) : HMet l G yX0_numbersOf (ws_ yX0_numbersOf cX0_numbersOf 4 ((Option.some Jvm.ClassFile.FieldType.int))) (d2 + 1) [.ref x0] h Q E := by
  refine gh_met (own := RX0) rfl (by decide +kernel) hst (by simp only [lg_sl_i, lg_sl_r, lg_sl_a, lg_sl_2, lg_sl_f, lg_sl_0]; decide) (fun X hXl hXn hret hnm hTb h0 eh C S0 => ?_)
  subst hXl
  have hlm := hCl.2.1
  have hd8 := hCl.2.2.1
  have hd2 : 1 ≤ d2 := Nat.le_trans (by decide) hd8
  have hLa := hCl.2.2.2
  have hd1 : 1 ≤ d2 + 1 := Nat.le_add_left _ _
  have hC9 := hCl
  replace hCl := hCl.1
  have hini : True := trivial
  unfold wb_X0_numbersOf at hw
  refine GK.sub (lv' := [(0, .ref x0)]) [0] (by simp only [lv_args_i, lv_args_r, lv_args_a, lv_args_l, lv_args_f, lv_args_0]; rfl) ?_
  refine gk_aload_n (pc := 0) C.1 0 dX0_numbersOf_0 rfl rfl ?_
  refine gc_X0_145 (pc := 1) (As := []) (rest := []) C hCl (Nat.le_refl _) hw rfl rfl (Nat.le_of_ble_eq_true rfl) dX0_numbersOf_1 (fun v9 h_1 hp => ?_) (fun q_3 h_4 hw ht9 => ?_)
  rotate_left
  · exact gx_out C S0 (by rw [hTb]; decide) ht9 hw
  clear hw
  obtain ⟨r_2, rfl, hw⟩ := hp
  refine GK.at (p2 := 4) rfl ?_
  refine gk_qstore_n (pc := 4) (lv' := [(1, va_rf r_2), (0, Value.ref x0)]) C.1 dX0_numbersOf_4 rfl (by rw [hXn]; decide) (by first | rfl | simp [va_rf_S, va_rf_cat, cat_i, cat_a, cat_l, cat_f, fin4_0, fin4_1, fin4_2, fin4_3]) ?_
  refine gk_iconst (pc := 5) (v := 0) C.1 dX0_numbersOf_5 (by decide) ?_
  refine gk_istore_n (pc := 6) (lv' := [(2, Value.int 0), (1, va_rf r_2), (0, Value.ref x0)]) C.1 dX0_numbersOf_6 rfl (by rw [hXn]; decide) (by first | rfl | simp [va_rf_S, va_rf_cat, cat_i, cat_a, cat_l, cat_f, fin4_0, fin4_1, fin4_2, fin4_3]) ?_
  refine gk_iconst (pc := 7) (v := 0) C.1 dX0_numbersOf_7 (by decide) ?_
  refine gk_istore_n (pc := 8) (lv' := [(3, Value.int 0), (2, Value.int 0), (1, va_rf r_2), (0, Value.ref x0)]) C.1 dX0_numbersOf_8 rfl (by rw [hXn]; decide) (by first | rfl | simp [va_rf_S, va_rf_cat, cat_i, cat_a, cat_l, cat_f, fin4_0, fin4_1, fin4_2, fin4_3]) ?_
  refine GK.sub (lv' := [(1, va_rf r_2), (2, .int 0), (3, .int 0)]) [2, 1, 0] rfl ?_
  obtain ⟨n9, hw⟩ := hw
  exact wk_X0_numbersOf_9 C hC9 S0 hret hXn hini hTb  n9 _ _ _ _ hw
/-! 108: GathersAllFaults.ofFaults(III)I -/
def wb_X0_ofFaults (cl : CT) (lm : Nat × Nat) (Q : QT) (E : ET) (x0 : Nat) (x1 : Int32) (x2 : Int32) (x3 : Int32) (h : HS) : Prop := ((x1 = 0 → (dp_GathersAllFaults_letterIt cl x0 [.int x2] h (gI (fun r_3 h_2 => Q (some (.int r_3)) h_2)) E)) ∧ (¬ x1 = 0 → ((x1 = 1 → (dp_GathersAllFaults_readValue cl x0 [] h (gI (fun r_8 h_7 => Q (some (.int r_8)) h_7)) E)) ∧ (¬ x1 = 1 → ((x1 = 2 → (dp_GathersAllFaults_readCheck cl x0 [] h (gI (fun r_13 h_12 => Q (some (.int r_13)) h_12)) E)) ∧ (¬ x1 = 2 → ((x1 = 3 → (dp_GathersAllFaults_partAsked cl x0 [.int x2, .int x3] h (gI (fun r_18 h_17 => Q (some (.int r_18)) h_17)) E)) ∧ (¬ x1 = 3 → ((x1 = 4 → (dp_GathersAllFaults_parts cl x0 [] h (gR (fun r_23 h_22 => ∃ a_26 : Nat, r_23 = some a_26 ∧ (dp_Row_at cl a_26 [.int x2] h_22 (gR (fun r_28 h_27 => ck_GathersAllFaults_Part h_27 r_28 ∧ (∃ a_31 : Nat, r_28 = some a_31 ∧ ((hT h_27 a_31 = 6) ∧ (Q (some (.int (hI h_27 21 a_31))) h_27))))) E))) E)) ∧ (¬ x1 = 4 → ((x1 = 5 → (dp_GathersAllFaults_putIt cl x0 [.int x2, .int x3] h (gI (fun r_34 h_33 => Q (some (.int r_34)) h_33)) E)) ∧ (¬ x1 = 5 → ((x1 = 6 → (hZ h + 1 ≤ lm.1 ∧ (hL h + 0 ≤ lm.2 ∧ (∀ (a_39 : Nat) (h_38 : HS), a_39 = hZ h → h_38 = hNew h 3 0 0 → (cl 167 (.ref a_39 :: []) h_38 (gV (fun h_40 => dp_GathersAllFaults_put cl x0 [.int x2, .ref a_39] h_40 (gI (fun r_44 h_43 => Q (some (.int r_44)) h_43)) E)) E))))) ∧ (¬ x1 = 6 → ((x1 = 7 → (dp_GathersAllFaults_found cl x0 [] h (gR (fun r_49 h_48 => ∃ a_52 : Nat, r_49 = some a_52 ∧ ((hT h_48 a_52 = 9) ∧ (∀ r_53 : Option Nat, r_53 = hR h_48 28 a_52 → (∃ a_54 : Nat, r_53 = some a_54 ∧ ((hT h_48 a_54 = 7) ∧ (Q (some (.int (hI h_48 24 a_54))) h_48))))))) E)) ∧ (¬ x1 = 7 → ((x1 = 8 → (dp_GathersAllFaults_faultTold cl x0 [.int x2, .int x3] h (gI (fun r_57 h_56 => Q (some (.int r_57)) h_56)) E)) ∧ (¬ x1 = 8 → ((x1 = 9 → (dp_GathersAllFaults_codedTold cl x0 [.int x2] h (gI (fun r_62 h_61 => Q (some (.int r_62)) h_61)) E)) ∧ (¬ x1 = 9 → ((x1 = 10 → (dp_GathersAllFaults_belowTold cl x0 [.int x2] h (gI (fun r_67 h_66 => Q (some (.int r_67)) h_66)) E)) ∧ (¬ x1 = 10 → ((x1 = 11 → (dp_GathersAllFaults_found cl x0 [] h (gR (fun r_72 h_71 => ∃ a_75 : Nat, r_72 = some a_75 ∧ ((hT h_71 a_75 = 9) ∧ (Q (some (.int (hI h_71 29 a_75))) h_71)))) E)) ∧ (¬ x1 = 11 → ((x1 = 12 → (dp_GathersAllFaults_found cl x0 [] h (gR (fun r_78 h_77 => ∃ a_81 : Nat, r_78 = some a_81 ∧ (dp_Finding_isNone cl a_81 [] h_77 (gI (fun r_83 h_82 => ((r_83 = 0 → (dp_GathersAllFaults_found cl x0 [] h_82 (gR (fun r_88 h_87 => ∃ a_91 : Nat, r_88 = some a_91 ∧ ((hT h_87 a_91 = 9) ∧ (∀ r_92 : Option Nat, r_92 = hR h_87 28 a_91 → (∃ a_93 : Nat, r_92 = some a_93 ∧ (dp_Row_at cl a_93 [.int 0] h_87 (gR (fun r_95 h_94 => ck_GathersAllFaults_Found h_94 r_95 ∧ (∃ a_98 : Nat, r_95 = some a_98 ∧ (dp_Found_told cl a_98 [] h_94 (gI (fun r_100 h_99 => Q (some (.int r_100)) h_99)) E)))) E)))))) E)) ∧ (¬ r_83 = 0 → (Q (some (.int (-9))) h_82))))) E))) E)) ∧ (¬ x1 = 12 → ((x1 = 13 → (dp_GathersAllFaults_limitedTold cl x0 [.int x2, .int x3] h (gI (fun r_105 h_104 => Q (some (.int r_105)) h_104)) E)) ∧ (¬ x1 = 13 → ((x1 = 14 → (dp_GathersAllFaults_totalTold cl x0 [] h (gI (fun r_110 h_109 => Q (some (.int r_110)) h_109)) E)) ∧ (¬ x1 = 14 → (dp_GathersAllFaults_sameTold cl x0 [.int x2, .int x3] h (gI (fun r_114 h_113 => Q (some (.int r_114)) h_113)) E)))))))))))))))))))))))))))))))
theorem wx_X0_ofFaults {l : Launch} (hst : l.stackTraces = false) {G : GG} {cl : CT} {lm : Nat × Nat} {Q : QT} {E : ET} {d2 : Nat} (hCl : CallsOK l G d2 cl ∧ hLm G lm ∧ 8 ≤ d2 ∧ LamsOK l G d2 cl) {x0 : Nat} {x1 : Int32} {x2 : Int32} {x3 : Int32} {h : HS} (hw : wb_X0_ofFaults cl lm Q E x0 x1 x2 x3 h) : HMet l G yX0_ofFaults (ws_ yX0_ofFaults cX0_ofFaults 4 ((Option.some Jvm.ClassFile.FieldType.int))) (d2 + 1) [.ref x0, .int x1, .int x2, .int x3] h Q E := by
  refine gh_met (own := RX0) rfl (by decide +kernel) hst (by simp only [lg_sl_i, lg_sl_r, lg_sl_a, lg_sl_2, lg_sl_f, lg_sl_0]; decide) (fun X hXl hXn hret hnm hTb h0 eh C S0 => ?_)
  subst hXl
  have hlm := hCl.2.1
  have hd8 := hCl.2.2.1
  have hd2 : 1 ≤ d2 := Nat.le_trans (by decide) hd8
  have hLa := hCl.2.2.2
  have hd1 : 1 ≤ d2 + 1 := Nat.le_add_left _ _
  have hC9 := hCl
  replace hCl := hCl.1
  have hini : True := trivial
  unfold wb_X0_ofFaults at hw
  refine GK.sub (lv' := [(0, .ref x0), (1, .int x1), (2, .int x2), (3, .int x3)]) [0, 1, 2, 3] (by simp only [lv_args_i, lv_args_r, lv_args_a, lv_args_l, lv_args_f, lv_args_0]; rfl) ?_
  refine gk_iload_n (pc := 0) C.1 1 dX0_ofFaults_0 rfl rfl ?_
  by_cases c_1 : x1 = 0
  · replace hw := hw.1 c_1
    refine gk_tableIn (pc := 1) (off := 75) (tgt := 76) C.1 dX0_ofFaults_1 (by rw [c_1]; decide) (by rw [c_1]; decide) (by rw [c_1]; decide) (by decide) ?_
    refine gk_aload_n (pc := 76) C.1 0 dX0_ofFaults_76 rfl rfl ?_
    refine gk_iload_n (pc := 77) C.1 2 dX0_ofFaults_77 rfl rfl ?_
    refine gc_X0_360 (pc := 78) (As := [.int x2]) (rest := []) C hCl (Nat.le_refl _) hw rfl rfl (Nat.le_of_ble_eq_true rfl) dX0_ofFaults_78 (fun v9 h_2 hp => ?_) (fun q_4 h_5 hw ht9 => ?_)
    rotate_left
    · exact gx_out C S0 (by rw [hTb]; decide) ht9 hw
    clear hw
    obtain ⟨r_3, rfl, hw⟩ := hp
    refine GK.at (p2 := 81) rfl ?_
    exact gh_iret (pc := 81) C S0 hret dX0_ofFaults_81 hw
  · replace hw := hw.2 c_1
    by_cases c_6 : x1 = 1
    · replace hw := hw.1 c_6
      refine gk_tableIn (pc := 1) (off := 81) (tgt := 82) C.1 dX0_ofFaults_1 (by rw [c_6]; decide) (by rw [c_6]; decide) (by rw [c_6]; decide) (by decide) ?_
      refine gk_aload_n (pc := 82) C.1 0 dX0_ofFaults_82 rfl rfl ?_
      refine gc_X0_363 (pc := 83) (As := []) (rest := []) C hCl (Nat.le_refl _) hw rfl rfl (Nat.le_of_ble_eq_true rfl) dX0_ofFaults_83 (fun v9 h_7 hp => ?_) (fun q_9 h_10 hw ht9 => ?_)
      rotate_left
      · exact gx_out C S0 (by rw [hTb]; decide) ht9 hw
      clear hw
      obtain ⟨r_8, rfl, hw⟩ := hp
      refine GK.at (p2 := 86) rfl ?_
      exact gh_iret (pc := 86) C S0 hret dX0_ofFaults_86 hw
    · replace hw := hw.2 c_6
      by_cases c_11 : x1 = 2
      · replace hw := hw.1 c_11
        refine gk_tableIn (pc := 1) (off := 86) (tgt := 87) C.1 dX0_ofFaults_1 (by rw [c_11]; decide) (by rw [c_11]; decide) (by rw [c_11]; decide) (by decide) ?_
        refine gk_aload_n (pc := 87) C.1 0 dX0_ofFaults_87 rfl rfl ?_
        refine gc_X0_366 (pc := 88) (As := []) (rest := []) C hCl (Nat.le_refl _) hw rfl rfl (Nat.le_of_ble_eq_true rfl) dX0_ofFaults_88 (fun v9 h_12 hp => ?_) (fun q_14 h_15 hw ht9 => ?_)
        rotate_left
        · exact gx_out C S0 (by rw [hTb]; decide) ht9 hw
        clear hw
        obtain ⟨r_13, rfl, hw⟩ := hp
        refine GK.at (p2 := 91) rfl ?_
        exact gh_iret (pc := 91) C S0 hret dX0_ofFaults_91 hw
      · replace hw := hw.2 c_11
        by_cases c_16 : x1 = 3
        · replace hw := hw.1 c_16
          refine gk_tableIn (pc := 1) (off := 91) (tgt := 92) C.1 dX0_ofFaults_1 (by rw [c_16]; decide) (by rw [c_16]; decide) (by rw [c_16]; decide) (by decide) ?_
          refine gk_aload_n (pc := 92) C.1 0 dX0_ofFaults_92 rfl rfl ?_
          refine gk_iload_n (pc := 93) C.1 2 dX0_ofFaults_93 rfl rfl ?_
          refine gk_iload_n (pc := 94) C.1 3 dX0_ofFaults_94 rfl rfl ?_
          refine gc_X0_369 (pc := 95) (As := [.int x2, .int x3]) (rest := []) C hCl (Nat.le_refl _) hw rfl rfl (Nat.le_of_ble_eq_true rfl) dX0_ofFaults_95 (fun v9 h_17 hp => ?_) (fun q_19 h_20 hw ht9 => ?_)
          rotate_left
          · exact gx_out C S0 (by rw [hTb]; decide) ht9 hw
          clear hw
          obtain ⟨r_18, rfl, hw⟩ := hp
          refine GK.at (p2 := 98) rfl ?_
          exact gh_iret (pc := 98) C S0 hret dX0_ofFaults_98 hw
        · replace hw := hw.2 c_16
          by_cases c_21 : x1 = 4
          · replace hw := hw.1 c_21
            refine gk_tableIn (pc := 1) (off := 98) (tgt := 99) C.1 dX0_ofFaults_1 (by rw [c_21]; decide) (by rw [c_21]; decide) (by rw [c_21]; decide) (by decide) ?_
            refine gk_aload_n (pc := 99) C.1 0 dX0_ofFaults_99 rfl rfl ?_
            refine gc_X0_145 (pc := 100) (As := []) (rest := []) C hCl (Nat.le_refl _) hw rfl rfl (Nat.le_of_ble_eq_true rfl) dX0_ofFaults_100 (fun v9 h_22 hp => ?_) (fun q_24 h_25 hw ht9 => ?_)
            rotate_left
            · exact gx_out C S0 (by rw [hTb]; decide) ht9 hw
            clear hw
            obtain ⟨r_23, rfl, hw⟩ := hp
            refine GK.at (p2 := 103) rfl ?_
            refine gk_iload_n (pc := 103) C.1 2 dX0_ofFaults_103 rfl rfl ?_
            obtain ⟨a_26, rfl, hw⟩ := hw
            refine gc_X0_152 (pc := 104) (As := [.int x2]) (rest := []) C hCl (Nat.le_refl _) hw rfl rfl (Nat.le_of_ble_eq_true rfl) dX0_ofFaults_104 (fun v9 h_27 hp => ?_) (fun q_29 h_30 hw ht9 => ?_)
            rotate_left
            · exact gx_out C S0 (by rw [hTb]; decide) ht9 hw
            clear hw
            obtain ⟨r_28, rfl, hw⟩ := hp
            refine GK.at (p2 := 107) rfl ?_
            obtain ⟨hs, hw⟩ := hw
            refine gh_ckc (pc := 107) (r := r_28) C q1641 (ck_GathersAllFaults_Part_ok hs) dX0_ofFaults_107 ?_
            obtain ⟨a_31, rfl, hw⟩ := hw
            obtain ⟨ht, hw⟩ := hw
            refine gf_X0_157 (pc := 110) C ht dX0_ofFaults_110 ?_
            exact gh_iret (pc := 113) C S0 hret dX0_ofFaults_113 hw
          · replace hw := hw.2 c_21
            by_cases c_32 : x1 = 5
            · replace hw := hw.1 c_32
              refine gk_tableIn (pc := 1) (off := 113) (tgt := 114) C.1 dX0_ofFaults_1 (by rw [c_32]; decide) (by rw [c_32]; decide) (by rw [c_32]; decide) (by decide) ?_
              refine gk_aload_n (pc := 114) C.1 0 dX0_ofFaults_114 rfl rfl ?_
              refine gk_iload_n (pc := 115) C.1 2 dX0_ofFaults_115 rfl rfl ?_
              refine gk_iload_n (pc := 116) C.1 3 dX0_ofFaults_116 rfl rfl ?_
              refine gc_X0_372 (pc := 117) (As := [.int x2, .int x3]) (rest := []) C hCl (Nat.le_refl _) hw rfl rfl (Nat.le_of_ble_eq_true rfl) dX0_ofFaults_117 (fun v9 h_33 hp => ?_) (fun q_35 h_36 hw ht9 => ?_)
              rotate_left
              · exact gx_out C S0 (by rw [hTb]; decide) ht9 hw
              clear hw
              obtain ⟨r_34, rfl, hw⟩ := hp
              refine GK.at (p2 := 120) rfl ?_
              exact gh_iret (pc := 120) C S0 hret dX0_ofFaults_120 hw
            · replace hw := hw.2 c_32
              by_cases c_37 : x1 = 6
              · replace hw := hw.1 c_37
                refine gk_tableIn (pc := 1) (off := 120) (tgt := 121) C.1 dX0_ofFaults_1 (by rw [c_37]; decide) (by rw [c_37]; decide) (by rw [c_37]; decide) (by decide) ?_
                refine gk_aload_n (pc := 121) C.1 0 dX0_ofFaults_121 rfl rfl ?_
                refine gk_iload_n (pc := 122) C.1 2 dX0_ofFaults_122 rfl rfl ?_
                obtain ⟨hr1, hr2, hw⟩ := hw
                refine gn_X0_93 (pc := 123) C (hlm.1 ▸ hr1) (hlm.2 ▸ hr2) dX0_ofFaults_123 (fun h_38 eh_38 => ?_)
                obtain ⟨a_39, ea_39⟩ : ∃ z : Nat, z = hZ h := ⟨_, rfl⟩
                rw [← ea_39]
                replace hw := hw a_39 h_38 ea_39 eh_38
                refine gk_dup (pc := 126) C.1 dX0_ofFaults_126 rfl ?_
                refine gc_X0_95 (pc := 127) (As := []) (rest := [.ref a_39, .int x2, .ref x0]) C hCl (Nat.le_refl _) hw rfl rfl (Nat.le_of_ble_eq_true rfl) dX0_ofFaults_127 (fun v9 h_40 hp => ?_) (fun q_41 h_42 hw ht9 => ?_)
                rotate_left
                · exact gx_out C S0 (by rw [hTb]; decide) ht9 hw
                clear hw
                obtain ⟨rfl, hw⟩ := hp
                refine GK.at (p2 := 130) rfl ?_
                refine gc_X0_188 (pc := 130) (As := [.int x2, .ref a_39]) (rest := []) C hCl (Nat.le_refl _) hw rfl rfl (Nat.le_of_ble_eq_true rfl) dX0_ofFaults_130 (fun v9 h_43 hp => ?_) (fun q_45 h_46 hw ht9 => ?_)
                rotate_left
                · exact gx_out C S0 (by rw [hTb]; decide) ht9 hw
                clear hw
                obtain ⟨r_44, rfl, hw⟩ := hp
                refine GK.at (p2 := 133) rfl ?_
                exact gh_iret (pc := 133) C S0 hret dX0_ofFaults_133 hw
              · replace hw := hw.2 c_37
                by_cases c_47 : x1 = 7
                · replace hw := hw.1 c_47
                  refine gk_tableIn (pc := 1) (off := 133) (tgt := 134) C.1 dX0_ofFaults_1 (by rw [c_47]; decide) (by rw [c_47]; decide) (by rw [c_47]; decide) (by decide) ?_
                  refine gk_aload_n (pc := 134) C.1 0 dX0_ofFaults_134 rfl rfl ?_
                  refine gc_X0_229 (pc := 135) (As := []) (rest := []) C hCl (Nat.le_refl _) hw rfl rfl (Nat.le_of_ble_eq_true rfl) dX0_ofFaults_135 (fun v9 h_48 hp => ?_) (fun q_50 h_51 hw ht9 => ?_)
                  rotate_left
                  · exact gx_out C S0 (by rw [hTb]; decide) ht9 hw
                  clear hw
                  obtain ⟨r_49, rfl, hw⟩ := hp
                  refine GK.at (p2 := 138) rfl ?_
                  obtain ⟨a_52, rfl, hw⟩ := hw
                  obtain ⟨ht, hw⟩ := hw
                  refine gf_X0_221 (pc := 138) C ht dX0_ofFaults_138 (fun r_53 er_53 => ?_)
                  replace hw := hw r_53 er_53
                  obtain ⟨a_54, rfl, hw⟩ := hw
                  obtain ⟨ht, hw⟩ := hw
                  refine gf_X0_149 (pc := 141) C ht dX0_ofFaults_141 ?_
                  exact gh_iret (pc := 144) C S0 hret dX0_ofFaults_144 hw
                · replace hw := hw.2 c_47
                  by_cases c_55 : x1 = 8
                  · replace hw := hw.1 c_55
                    refine gk_tableIn (pc := 1) (off := 144) (tgt := 145) C.1 dX0_ofFaults_1 (by rw [c_55]; decide) (by rw [c_55]; decide) (by rw [c_55]; decide) (by decide) ?_
                    refine gk_aload_n (pc := 145) C.1 0 dX0_ofFaults_145 rfl rfl ?_
                    refine gk_iload_n (pc := 146) C.1 2 dX0_ofFaults_146 rfl rfl ?_
                    refine gk_iload_n (pc := 147) C.1 3 dX0_ofFaults_147 rfl rfl ?_
                    refine gc_X0_375 (pc := 148) (As := [.int x2, .int x3]) (rest := []) C hCl (Nat.le_refl _) hw rfl rfl (Nat.le_of_ble_eq_true rfl) dX0_ofFaults_148 (fun v9 h_56 hp => ?_) (fun q_58 h_59 hw ht9 => ?_)
                    rotate_left
                    · exact gx_out C S0 (by rw [hTb]; decide) ht9 hw
                    clear hw
                    obtain ⟨r_57, rfl, hw⟩ := hp
                    refine GK.at (p2 := 151) rfl ?_
                    exact gh_iret (pc := 151) C S0 hret dX0_ofFaults_151 hw
                  · replace hw := hw.2 c_55
                    by_cases c_60 : x1 = 9
                    · replace hw := hw.1 c_60
                      refine gk_tableIn (pc := 1) (off := 151) (tgt := 152) C.1 dX0_ofFaults_1 (by rw [c_60]; decide) (by rw [c_60]; decide) (by rw [c_60]; decide) (by decide) ?_
                      refine gk_aload_n (pc := 152) C.1 0 dX0_ofFaults_152 rfl rfl ?_
                      refine gk_iload_n (pc := 153) C.1 2 dX0_ofFaults_153 rfl rfl ?_
                      refine gc_X0_378 (pc := 154) (As := [.int x2]) (rest := []) C hCl (Nat.le_refl _) hw rfl rfl (Nat.le_of_ble_eq_true rfl) dX0_ofFaults_154 (fun v9 h_61 hp => ?_) (fun q_63 h_64 hw ht9 => ?_)
                      rotate_left
                      · exact gx_out C S0 (by rw [hTb]; decide) ht9 hw
                      clear hw
                      obtain ⟨r_62, rfl, hw⟩ := hp
                      refine GK.at (p2 := 157) rfl ?_
                      exact gh_iret (pc := 157) C S0 hret dX0_ofFaults_157 hw
                    · replace hw := hw.2 c_60
                      by_cases c_65 : x1 = 10
                      · replace hw := hw.1 c_65
                        refine gk_tableIn (pc := 1) (off := 157) (tgt := 158) C.1 dX0_ofFaults_1 (by rw [c_65]; decide) (by rw [c_65]; decide) (by rw [c_65]; decide) (by decide) ?_
                        refine gk_aload_n (pc := 158) C.1 0 dX0_ofFaults_158 rfl rfl ?_
                        refine gk_iload_n (pc := 159) C.1 2 dX0_ofFaults_159 rfl rfl ?_
                        refine gc_X0_381 (pc := 160) (As := [.int x2]) (rest := []) C hCl (Nat.le_refl _) hw rfl rfl (Nat.le_of_ble_eq_true rfl) dX0_ofFaults_160 (fun v9 h_66 hp => ?_) (fun q_68 h_69 hw ht9 => ?_)
                        rotate_left
                        · exact gx_out C S0 (by rw [hTb]; decide) ht9 hw
                        clear hw
                        obtain ⟨r_67, rfl, hw⟩ := hp
                        refine GK.at (p2 := 163) rfl ?_
                        exact gh_iret (pc := 163) C S0 hret dX0_ofFaults_163 hw
                      · replace hw := hw.2 c_65
                        by_cases c_70 : x1 = 11
                        · replace hw := hw.1 c_70
                          refine gk_tableIn (pc := 1) (off := 163) (tgt := 164) C.1 dX0_ofFaults_1 (by rw [c_70]; decide) (by rw [c_70]; decide) (by rw [c_70]; decide) (by decide) ?_
                          refine gk_aload_n (pc := 164) C.1 0 dX0_ofFaults_164 rfl rfl ?_
                          refine gc_X0_229 (pc := 165) (As := []) (rest := []) C hCl (Nat.le_refl _) hw rfl rfl (Nat.le_of_ble_eq_true rfl) dX0_ofFaults_165 (fun v9 h_71 hp => ?_) (fun q_73 h_74 hw ht9 => ?_)
                          rotate_left
                          · exact gx_out C S0 (by rw [hTb]; decide) ht9 hw
                          clear hw
                          obtain ⟨r_72, rfl, hw⟩ := hp
                          refine GK.at (p2 := 168) rfl ?_
                          obtain ⟨a_75, rfl, hw⟩ := hw
                          obtain ⟨ht, hw⟩ := hw
                          refine gf_X0_384 (pc := 168) C ht dX0_ofFaults_168 ?_
                          exact gh_iret (pc := 171) C S0 hret dX0_ofFaults_171 hw
                        · replace hw := hw.2 c_70
                          by_cases c_76 : x1 = 12
                          · replace hw := hw.1 c_76
                            refine gk_tableIn (pc := 1) (off := 171) (tgt := 172) C.1 dX0_ofFaults_1 (by rw [c_76]; decide) (by rw [c_76]; decide) (by rw [c_76]; decide) (by decide) ?_
                            refine gk_aload_n (pc := 172) C.1 0 dX0_ofFaults_172 rfl rfl ?_
                            refine gc_X0_229 (pc := 173) (As := []) (rest := []) C hCl (Nat.le_refl _) hw rfl rfl (Nat.le_of_ble_eq_true rfl) dX0_ofFaults_173 (fun v9 h_77 hp => ?_) (fun q_79 h_80 hw ht9 => ?_)
                            rotate_left
                            · exact gx_out C S0 (by rw [hTb]; decide) ht9 hw
                            clear hw
                            obtain ⟨r_78, rfl, hw⟩ := hp
                            refine GK.at (p2 := 176) rfl ?_
                            obtain ⟨a_81, rfl, hw⟩ := hw
                            refine gc_X0_293 (pc := 176) (As := []) (rest := []) C hCl (Nat.le_refl _) hw rfl rfl (Nat.le_of_ble_eq_true rfl) dX0_ofFaults_176 (fun v9 h_82 hp => ?_) (fun q_84 h_85 hw ht9 => ?_)
                            rotate_left
                            · exact gx_out C S0 (by rw [hTb]; decide) ht9 hw
                            clear hw
                            obtain ⟨r_83, rfl, hw⟩ := hp
                            refine GK.at (p2 := 179) rfl ?_
                            refine gk_if_eq (pc := 179) (tgt := 187) C.1 dX0_ofFaults_179 (by decide) (fun c_86 => ?_) (fun c_86 => ?_)
                            · replace hw := hw.1 c_86
                              refine gk_aload_n (pc := 187) C.1 0 dX0_ofFaults_187 rfl rfl ?_
                              refine gc_X0_229 (pc := 188) (As := []) (rest := []) C hCl (Nat.le_refl _) hw rfl rfl (Nat.le_of_ble_eq_true rfl) dX0_ofFaults_188 (fun v9 h_87 hp => ?_) (fun q_89 h_90 hw ht9 => ?_)
                              rotate_left
                              · exact gx_out C S0 (by rw [hTb]; decide) ht9 hw
                              clear hw
                              obtain ⟨r_88, rfl, hw⟩ := hp
                              refine GK.at (p2 := 191) rfl ?_
                              obtain ⟨a_91, rfl, hw⟩ := hw
                              obtain ⟨ht, hw⟩ := hw
                              refine gf_X0_221 (pc := 191) C ht dX0_ofFaults_191 (fun r_92 er_92 => ?_)
                              replace hw := hw r_92 er_92
                              refine gk_iconst (pc := 194) (v := 0) C.1 dX0_ofFaults_194 (by decide) ?_
                              obtain ⟨a_93, rfl, hw⟩ := hw
                              refine gc_X0_152 (pc := 195) (As := [.int 0]) (rest := []) C hCl (Nat.le_refl _) hw rfl rfl (Nat.le_of_ble_eq_true rfl) dX0_ofFaults_195 (fun v9 h_94 hp => ?_) (fun q_96 h_97 hw ht9 => ?_)
                              rotate_left
                              · exact gx_out C S0 (by rw [hTb]; decide) ht9 hw
                              clear hw
                              obtain ⟨r_95, rfl, hw⟩ := hp
                              refine GK.at (p2 := 198) rfl ?_
                              obtain ⟨hs, hw⟩ := hw
                              refine gh_ckc (pc := 198) (r := r_95) C q1736 (ck_GathersAllFaults_Found_ok hs) dX0_ofFaults_198 ?_
                              obtain ⟨a_98, rfl, hw⟩ := hw
                              refine gc_X0_252 (pc := 201) (As := []) (rest := []) C hCl (Nat.le_refl _) hw rfl rfl (Nat.le_of_ble_eq_true rfl) dX0_ofFaults_201 (fun v9 h_99 hp => ?_) (fun q_101 h_102 hw ht9 => ?_)
                              rotate_left
                              · exact gx_out C S0 (by rw [hTb]; decide) ht9 hw
                              clear hw
                              obtain ⟨r_100, rfl, hw⟩ := hp
                              refine GK.at (p2 := 204) rfl ?_
                              exact gh_iret (pc := 204) C S0 hret dX0_ofFaults_204 hw
                            · replace hw := hw.2 c_86
                              refine gk_bipush (pc := 182) (v := (-9)) C.1 dX0_ofFaults_182 (by decide) ?_
                              refine gk_goto (pc := 184) (tgt := 204) C.1 dX0_ofFaults_184 (by decide) ?_
                              exact gh_iret (pc := 204) C S0 hret dX0_ofFaults_204 hw
                          · replace hw := hw.2 c_76
                            by_cases c_103 : x1 = 13
                            · replace hw := hw.1 c_103
                              refine gk_tableIn (pc := 1) (off := 204) (tgt := 205) C.1 dX0_ofFaults_1 (by rw [c_103]; decide) (by rw [c_103]; decide) (by rw [c_103]; decide) (by decide) ?_
                              refine gk_aload_n (pc := 205) C.1 0 dX0_ofFaults_205 rfl rfl ?_
                              refine gk_iload_n (pc := 206) C.1 2 dX0_ofFaults_206 rfl rfl ?_
                              refine gk_iload_n (pc := 207) C.1 3 dX0_ofFaults_207 rfl rfl ?_
                              refine gc_X0_387 (pc := 208) (As := [.int x2, .int x3]) (rest := []) C hCl (Nat.le_refl _) hw rfl rfl (Nat.le_of_ble_eq_true rfl) dX0_ofFaults_208 (fun v9 h_104 hp => ?_) (fun q_106 h_107 hw ht9 => ?_)
                              rotate_left
                              · exact gx_out C S0 (by rw [hTb]; decide) ht9 hw
                              clear hw
                              obtain ⟨r_105, rfl, hw⟩ := hp
                              refine GK.at (p2 := 211) rfl ?_
                              exact gh_iret (pc := 211) C S0 hret dX0_ofFaults_211 hw
                            · replace hw := hw.2 c_103
                              by_cases c_108 : x1 = 14
                              · replace hw := hw.1 c_108
                                refine gk_tableIn (pc := 1) (off := 211) (tgt := 212) C.1 dX0_ofFaults_1 (by rw [c_108]; decide) (by rw [c_108]; decide) (by rw [c_108]; decide) (by decide) ?_
                                refine gk_aload_n (pc := 212) C.1 0 dX0_ofFaults_212 rfl rfl ?_
                                refine gc_X0_390 (pc := 213) (As := []) (rest := []) C hCl (Nat.le_refl _) hw rfl rfl (Nat.le_of_ble_eq_true rfl) dX0_ofFaults_213 (fun v9 h_109 hp => ?_) (fun q_111 h_112 hw ht9 => ?_)
                                rotate_left
                                · exact gx_out C S0 (by rw [hTb]; decide) ht9 hw
                                clear hw
                                obtain ⟨r_110, rfl, hw⟩ := hp
                                refine GK.at (p2 := 216) rfl ?_
                                exact gh_iret (pc := 216) C S0 hret dX0_ofFaults_216 hw
                              · replace hw := hw.2 c_108
                                refine gk_tableOut (pc := 1) (tgt := 217) C.1 dX0_ofFaults_1 (by have z0 := lv_neT c_1 (a := 0) (by decide); have z1 := lv_neT c_6 (a := 1) (by decide); have z2 := lv_neT c_11 (a := 2) (by decide); have z3 := lv_neT c_16 (a := 3) (by decide); have z4 := lv_neT c_21 (a := 4) (by decide); have z5 := lv_neT c_32 (a := 5) (by decide); have z6 := lv_neT c_37 (a := 6) (by decide); have z7 := lv_neT c_47 (a := 7) (by decide); have z8 := lv_neT c_55 (a := 8) (by decide); have z9 := lv_neT c_60 (a := 9) (by decide); have z10 := lv_neT c_65 (a := 10) (by decide); have z11 := lv_neT c_70 (a := 11) (by decide); have z12 := lv_neT c_76 (a := 12) (by decide); have z13 := lv_neT c_103 (a := 13) (by decide); have z14 := lv_neT c_108 (a := 14) (by decide); omega) (by decide) ?_
                                refine gk_aload_n (pc := 217) C.1 0 dX0_ofFaults_217 rfl rfl ?_
                                refine gk_iload_n (pc := 218) C.1 2 dX0_ofFaults_218 rfl rfl ?_
                                refine gk_iload_n (pc := 219) C.1 3 dX0_ofFaults_219 rfl rfl ?_
                                refine gc_X0_393 (pc := 220) (As := [.int x2, .int x3]) (rest := []) C hCl (Nat.le_refl _) hw rfl rfl (Nat.le_of_ble_eq_true rfl) dX0_ofFaults_220 (fun v9 h_113 hp => ?_) (fun q_115 h_116 hw ht9 => ?_)
                                rotate_left
                                · exact gx_out C S0 (by rw [hTb]; decide) ht9 hw
                                clear hw
                                obtain ⟨r_114, rfl, hw⟩ := hp
                                refine GK.at (p2 := 223) rfl ?_
                                exact gh_iret (pc := 223) C S0 hret dX0_ofFaults_223 hw
/-! 109: GathersAllFaults.ofRest(IIII)I -/
def wb_X0_ofRest (cl : CT) (lm : Nat × Nat) (Q : QT) (E : ET) (x0 : Nat) (x1 : Int32) (x2 : Int32) (x3 : Int32) (x4 : Int32) (h : HS) : Prop := ((x1 = 16 → (dp_GathersAllFaults_differentOnes cl x0 [] h (gI (fun r_3 h_2 => Q (some (.int r_3)) h_2)) E)) ∧ (¬ x1 = 16 → ((x1 = 17 → (dp_GathersAllFaults_oftenTold cl x0 [.int x2] h (gI (fun r_8 h_7 => Q (some (.int r_8)) h_7)) E)) ∧ (¬ x1 = 17 → ((x1 = 18 → (dp_GathersAllFaults_withoutTold cl x0 [.int x2] h (gI (fun r_13 h_12 => Q (some (.int r_13)) h_12)) E)) ∧ (¬ x1 = 18 → ((x1 = 19 → (dp_GathersAllFaults_mendTold cl x0 [.int x2] h (gI (fun r_18 h_17 => Q (some (.int r_18)) h_17)) E)) ∧ (¬ x1 = 19 → ((x1 = 20 → (dp_GathersAllFaults_rangeTold cl x0 [.int x2, .int x3] h (gI (fun r_23 h_22 => Q (some (.int r_23)) h_22)) E)) ∧ (¬ x1 = 20 → ((x1 = 21 → (dp_GathersAllFaults_whichTold cl x0 [.int x2] h (gI (fun r_28 h_27 => Q (some (.int r_28)) h_27)) E)) ∧ (¬ x1 = 21 → ((x1 = 22 → (dp_GathersAllFaults_rowIt cl x0 [.int x2] h (gI (fun r_33 h_32 => Q (some (.int r_33)) h_32)) E)) ∧ (¬ x1 = 22 → ((x1 = 23 → (dp_GathersAllFaults_judgeRow cl x0 [] h (gI (fun r_38 h_37 => Q (some (.int r_38)) h_37)) E)) ∧ (¬ x1 = 23 → ((x1 = 24 → (dp_GathersAllFaults_clearIt cl x0 [] h (gI (fun r_43 h_42 => Q (some (.int r_43)) h_42)) E)) ∧ (¬ x1 = 24 → ((x1 = 25 → (dp_GathersAllFaults_lotsTold cl x0 [.int x2, .int x3, .int x4] h (gI (fun r_48 h_47 => Q (some (.int r_48)) h_47)) E)) ∧ (¬ x1 = 25 → ((x1 = 26 → (dp_GathersAllFaults_imageIt cl x0 [] h (gI (fun r_53 h_52 => Q (some (.int r_53)) h_52)) E)) ∧ (¬ x1 = 26 → (dp_GathersAllFaults_onIt cl x0 [] h (gI (fun r_57 h_56 => Q (some (.int r_57)) h_56)) E)))))))))))))))))))))))
theorem wx_X0_ofRest {l : Launch} (hst : l.stackTraces = false) {G : GG} {cl : CT} {lm : Nat × Nat} {Q : QT} {E : ET} {d2 : Nat} (hCl : CallsOK l G d2 cl ∧ hLm G lm ∧ 8 ≤ d2 ∧ LamsOK l G d2 cl) {x0 : Nat} {x1 : Int32} {x2 : Int32} {x3 : Int32} {x4 : Int32} {h : HS} (hw : wb_X0_ofRest cl lm Q E x0 x1 x2 x3 x4 h) : HMet l G yX0_ofRest (ws_ yX0_ofRest cX0_ofRest 5 ((Option.some Jvm.ClassFile.FieldType.int))) (d2 + 1) [.ref x0, .int x1, .int x2, .int x3, .int x4] h Q E := by
  refine gh_met (own := RX0) rfl (by decide +kernel) hst (by simp only [lg_sl_i, lg_sl_r, lg_sl_a, lg_sl_2, lg_sl_f, lg_sl_0]; decide) (fun X hXl hXn hret hnm hTb h0 eh C S0 => ?_)
  subst hXl
  have hlm := hCl.2.1
  have hd8 := hCl.2.2.1
  have hd2 : 1 ≤ d2 := Nat.le_trans (by decide) hd8
  have hLa := hCl.2.2.2
  have hd1 : 1 ≤ d2 + 1 := Nat.le_add_left _ _
  have hC9 := hCl
  replace hCl := hCl.1
  have hini : True := trivial
  unfold wb_X0_ofRest at hw
  refine GK.sub (lv' := [(0, .ref x0), (1, .int x1), (2, .int x2), (3, .int x3), (4, .int x4)]) [0, 1, 2, 3, 4] (by simp only [lv_args_i, lv_args_r, lv_args_a, lv_args_l, lv_args_f, lv_args_0]; rfl) ?_
  refine gk_iload_n (pc := 0) C.1 1 dX0_ofRest_0 rfl rfl ?_
  by_cases c_1 : x1 = 16
  · replace hw := hw.1 c_1
    refine gk_tableIn (pc := 1) (off := 59) (tgt := 60) C.1 dX0_ofRest_1 (by rw [c_1]; decide) (by rw [c_1]; decide) (by rw [c_1]; decide) (by decide) ?_
    refine gk_aload_n (pc := 60) C.1 0 dX0_ofRest_60 rfl rfl ?_
    refine gc_X0_406 (pc := 61) (As := []) (rest := []) C hCl (Nat.le_refl _) hw rfl rfl (Nat.le_of_ble_eq_true rfl) dX0_ofRest_61 (fun v9 h_2 hp => ?_) (fun q_4 h_5 hw ht9 => ?_)
    rotate_left
    · exact gx_out C S0 (by rw [hTb]; decide) ht9 hw
    clear hw
    obtain ⟨r_3, rfl, hw⟩ := hp
    refine GK.at (p2 := 64) rfl ?_
    exact gh_iret (pc := 64) C S0 hret dX0_ofRest_64 hw
  · replace hw := hw.2 c_1
    by_cases c_6 : x1 = 17
    · replace hw := hw.1 c_6
      refine gk_tableIn (pc := 1) (off := 64) (tgt := 65) C.1 dX0_ofRest_1 (by rw [c_6]; decide) (by rw [c_6]; decide) (by rw [c_6]; decide) (by decide) ?_
      refine gk_aload_n (pc := 65) C.1 0 dX0_ofRest_65 rfl rfl ?_
      refine gk_iload_n (pc := 66) C.1 2 dX0_ofRest_66 rfl rfl ?_
      refine gc_X0_409 (pc := 67) (As := [.int x2]) (rest := []) C hCl (Nat.le_refl _) hw rfl rfl (Nat.le_of_ble_eq_true rfl) dX0_ofRest_67 (fun v9 h_7 hp => ?_) (fun q_9 h_10 hw ht9 => ?_)
      rotate_left
      · exact gx_out C S0 (by rw [hTb]; decide) ht9 hw
      clear hw
      obtain ⟨r_8, rfl, hw⟩ := hp
      refine GK.at (p2 := 70) rfl ?_
      exact gh_iret (pc := 70) C S0 hret dX0_ofRest_70 hw
    · replace hw := hw.2 c_6
      by_cases c_11 : x1 = 18
      · replace hw := hw.1 c_11
        refine gk_tableIn (pc := 1) (off := 70) (tgt := 71) C.1 dX0_ofRest_1 (by rw [c_11]; decide) (by rw [c_11]; decide) (by rw [c_11]; decide) (by decide) ?_
        refine gk_aload_n (pc := 71) C.1 0 dX0_ofRest_71 rfl rfl ?_
        refine gk_iload_n (pc := 72) C.1 2 dX0_ofRest_72 rfl rfl ?_
        refine gc_X0_412 (pc := 73) (As := [.int x2]) (rest := []) C hCl (Nat.le_refl _) hw rfl rfl (Nat.le_of_ble_eq_true rfl) dX0_ofRest_73 (fun v9 h_12 hp => ?_) (fun q_14 h_15 hw ht9 => ?_)
        rotate_left
        · exact gx_out C S0 (by rw [hTb]; decide) ht9 hw
        clear hw
        obtain ⟨r_13, rfl, hw⟩ := hp
        refine GK.at (p2 := 76) rfl ?_
        exact gh_iret (pc := 76) C S0 hret dX0_ofRest_76 hw
      · replace hw := hw.2 c_11
        by_cases c_16 : x1 = 19
        · replace hw := hw.1 c_16
          refine gk_tableIn (pc := 1) (off := 76) (tgt := 77) C.1 dX0_ofRest_1 (by rw [c_16]; decide) (by rw [c_16]; decide) (by rw [c_16]; decide) (by decide) ?_
          refine gk_aload_n (pc := 77) C.1 0 dX0_ofRest_77 rfl rfl ?_
          refine gk_iload_n (pc := 78) C.1 2 dX0_ofRest_78 rfl rfl ?_
          refine gc_X0_415 (pc := 79) (As := [.int x2]) (rest := []) C hCl (Nat.le_refl _) hw rfl rfl (Nat.le_of_ble_eq_true rfl) dX0_ofRest_79 (fun v9 h_17 hp => ?_) (fun q_19 h_20 hw ht9 => ?_)
          rotate_left
          · exact gx_out C S0 (by rw [hTb]; decide) ht9 hw
          clear hw
          obtain ⟨r_18, rfl, hw⟩ := hp
          refine GK.at (p2 := 82) rfl ?_
          exact gh_iret (pc := 82) C S0 hret dX0_ofRest_82 hw
        · replace hw := hw.2 c_16
          by_cases c_21 : x1 = 20
          · replace hw := hw.1 c_21
            refine gk_tableIn (pc := 1) (off := 82) (tgt := 83) C.1 dX0_ofRest_1 (by rw [c_21]; decide) (by rw [c_21]; decide) (by rw [c_21]; decide) (by decide) ?_
            refine gk_aload_n (pc := 83) C.1 0 dX0_ofRest_83 rfl rfl ?_
            refine gk_iload_n (pc := 84) C.1 2 dX0_ofRest_84 rfl rfl ?_
            refine gk_iload_n (pc := 85) C.1 3 dX0_ofRest_85 rfl rfl ?_
            refine gc_X0_418 (pc := 86) (As := [.int x2, .int x3]) (rest := []) C hCl (Nat.le_refl _) hw rfl rfl (Nat.le_of_ble_eq_true rfl) dX0_ofRest_86 (fun v9 h_22 hp => ?_) (fun q_24 h_25 hw ht9 => ?_)
            rotate_left
            · exact gx_out C S0 (by rw [hTb]; decide) ht9 hw
            clear hw
            obtain ⟨r_23, rfl, hw⟩ := hp
            refine GK.at (p2 := 89) rfl ?_
            exact gh_iret (pc := 89) C S0 hret dX0_ofRest_89 hw
          · replace hw := hw.2 c_21
            by_cases c_26 : x1 = 21
            · replace hw := hw.1 c_26
              refine gk_tableIn (pc := 1) (off := 89) (tgt := 90) C.1 dX0_ofRest_1 (by rw [c_26]; decide) (by rw [c_26]; decide) (by rw [c_26]; decide) (by decide) ?_
              refine gk_aload_n (pc := 90) C.1 0 dX0_ofRest_90 rfl rfl ?_
              refine gk_iload_n (pc := 91) C.1 2 dX0_ofRest_91 rfl rfl ?_
              refine gc_X0_421 (pc := 92) (As := [.int x2]) (rest := []) C hCl (Nat.le_refl _) hw rfl rfl (Nat.le_of_ble_eq_true rfl) dX0_ofRest_92 (fun v9 h_27 hp => ?_) (fun q_29 h_30 hw ht9 => ?_)
              rotate_left
              · exact gx_out C S0 (by rw [hTb]; decide) ht9 hw
              clear hw
              obtain ⟨r_28, rfl, hw⟩ := hp
              refine GK.at (p2 := 95) rfl ?_
              exact gh_iret (pc := 95) C S0 hret dX0_ofRest_95 hw
            · replace hw := hw.2 c_26
              by_cases c_31 : x1 = 22
              · replace hw := hw.1 c_31
                refine gk_tableIn (pc := 1) (off := 95) (tgt := 96) C.1 dX0_ofRest_1 (by rw [c_31]; decide) (by rw [c_31]; decide) (by rw [c_31]; decide) (by decide) ?_
                refine gk_aload_n (pc := 96) C.1 0 dX0_ofRest_96 rfl rfl ?_
                refine gk_iload_n (pc := 97) C.1 2 dX0_ofRest_97 rfl rfl ?_
                refine gc_X0_424 (pc := 98) (As := [.int x2]) (rest := []) C hCl (Nat.le_refl _) hw rfl rfl (Nat.le_of_ble_eq_true rfl) dX0_ofRest_98 (fun v9 h_32 hp => ?_) (fun q_34 h_35 hw ht9 => ?_)
                rotate_left
                · exact gx_out C S0 (by rw [hTb]; decide) ht9 hw
                clear hw
                obtain ⟨r_33, rfl, hw⟩ := hp
                refine GK.at (p2 := 101) rfl ?_
                exact gh_iret (pc := 101) C S0 hret dX0_ofRest_101 hw
              · replace hw := hw.2 c_31
                by_cases c_36 : x1 = 23
                · replace hw := hw.1 c_36
                  refine gk_tableIn (pc := 1) (off := 101) (tgt := 102) C.1 dX0_ofRest_1 (by rw [c_36]; decide) (by rw [c_36]; decide) (by rw [c_36]; decide) (by decide) ?_
                  refine gk_aload_n (pc := 102) C.1 0 dX0_ofRest_102 rfl rfl ?_
                  refine gc_X0_427 (pc := 103) (As := []) (rest := []) C hCl (Nat.le_refl _) hw rfl rfl (Nat.le_of_ble_eq_true rfl) dX0_ofRest_103 (fun v9 h_37 hp => ?_) (fun q_39 h_40 hw ht9 => ?_)
                  rotate_left
                  · exact gx_out C S0 (by rw [hTb]; decide) ht9 hw
                  clear hw
                  obtain ⟨r_38, rfl, hw⟩ := hp
                  refine GK.at (p2 := 106) rfl ?_
                  exact gh_iret (pc := 106) C S0 hret dX0_ofRest_106 hw
                · replace hw := hw.2 c_36
                  by_cases c_41 : x1 = 24
                  · replace hw := hw.1 c_41
                    refine gk_tableIn (pc := 1) (off := 106) (tgt := 107) C.1 dX0_ofRest_1 (by rw [c_41]; decide) (by rw [c_41]; decide) (by rw [c_41]; decide) (by decide) ?_
                    refine gk_aload_n (pc := 107) C.1 0 dX0_ofRest_107 rfl rfl ?_
                    refine gc_X0_430 (pc := 108) (As := []) (rest := []) C hCl (Nat.le_refl _) hw rfl rfl (Nat.le_of_ble_eq_true rfl) dX0_ofRest_108 (fun v9 h_42 hp => ?_) (fun q_44 h_45 hw ht9 => ?_)
                    rotate_left
                    · exact gx_out C S0 (by rw [hTb]; decide) ht9 hw
                    clear hw
                    obtain ⟨r_43, rfl, hw⟩ := hp
                    refine GK.at (p2 := 111) rfl ?_
                    exact gh_iret (pc := 111) C S0 hret dX0_ofRest_111 hw
                  · replace hw := hw.2 c_41
                    by_cases c_46 : x1 = 25
                    · replace hw := hw.1 c_46
                      refine gk_tableIn (pc := 1) (off := 111) (tgt := 112) C.1 dX0_ofRest_1 (by rw [c_46]; decide) (by rw [c_46]; decide) (by rw [c_46]; decide) (by decide) ?_
                      refine gk_aload_n (pc := 112) C.1 0 dX0_ofRest_112 rfl rfl ?_
                      refine gk_iload_n (pc := 113) C.1 2 dX0_ofRest_113 rfl rfl ?_
                      refine gk_iload_n (pc := 114) C.1 3 dX0_ofRest_114 rfl rfl ?_
                      refine gk_iload (pc := 115) C.1 4 dX0_ofRest_115 rfl ?_
                      refine gc_X0_433 (pc := 117) (As := [.int x2, .int x3, .int x4]) (rest := []) C hCl (Nat.le_refl _) hw rfl rfl (Nat.le_of_ble_eq_true rfl) dX0_ofRest_117 (fun v9 h_47 hp => ?_) (fun q_49 h_50 hw ht9 => ?_)
                      rotate_left
                      · exact gx_out C S0 (by rw [hTb]; decide) ht9 hw
                      clear hw
                      obtain ⟨r_48, rfl, hw⟩ := hp
                      refine GK.at (p2 := 120) rfl ?_
                      exact gh_iret (pc := 120) C S0 hret dX0_ofRest_120 hw
                    · replace hw := hw.2 c_46
                      by_cases c_51 : x1 = 26
                      · replace hw := hw.1 c_51
                        refine gk_tableIn (pc := 1) (off := 120) (tgt := 121) C.1 dX0_ofRest_1 (by rw [c_51]; decide) (by rw [c_51]; decide) (by rw [c_51]; decide) (by decide) ?_
                        refine gk_aload_n (pc := 121) C.1 0 dX0_ofRest_121 rfl rfl ?_
                        refine gc_X0_436 (pc := 122) (As := []) (rest := []) C hCl (Nat.le_refl _) hw rfl rfl (Nat.le_of_ble_eq_true rfl) dX0_ofRest_122 (fun v9 h_52 hp => ?_) (fun q_54 h_55 hw ht9 => ?_)
                        rotate_left
                        · exact gx_out C S0 (by rw [hTb]; decide) ht9 hw
                        clear hw
                        obtain ⟨r_53, rfl, hw⟩ := hp
                        refine GK.at (p2 := 125) rfl ?_
                        exact gh_iret (pc := 125) C S0 hret dX0_ofRest_125 hw
                      · replace hw := hw.2 c_51
                        refine gk_tableOut (pc := 1) (tgt := 126) C.1 dX0_ofRest_1 (by have z0 := lv_neT c_1 (a := 16) (by decide); have z1 := lv_neT c_6 (a := 17) (by decide); have z2 := lv_neT c_11 (a := 18) (by decide); have z3 := lv_neT c_16 (a := 19) (by decide); have z4 := lv_neT c_21 (a := 20) (by decide); have z5 := lv_neT c_26 (a := 21) (by decide); have z6 := lv_neT c_31 (a := 22) (by decide); have z7 := lv_neT c_36 (a := 23) (by decide); have z8 := lv_neT c_41 (a := 24) (by decide); have z9 := lv_neT c_46 (a := 25) (by decide); have z10 := lv_neT c_51 (a := 26) (by decide); omega) (by decide) ?_
                        refine gk_aload_n (pc := 126) C.1 0 dX0_ofRest_126 rfl rfl ?_
                        refine gc_X0_439 (pc := 127) (As := []) (rest := []) C hCl (Nat.le_refl _) hw rfl rfl (Nat.le_of_ble_eq_true rfl) dX0_ofRest_127 (fun v9 h_56 hp => ?_) (fun q_58 h_59 hw ht9 => ?_)
                        rotate_left
                        · exact gx_out C S0 (by rw [hTb]; decide) ht9 hw
                        clear hw
                        obtain ⟨r_57, rfl, hw⟩ := hp
                        refine GK.at (p2 := 130) rfl ?_
                        exact gh_iret (pc := 130) C S0 hret dX0_ofRest_130 hw
/-! 110: GathersAllFaults.often(I)I -/
def wb_X0_often (cl : CT) (lm : Nat × Nat) (Q : QT) (E : ET) (x0 : Nat) (x1 : Int32) (h : HS) : Prop := dp_GathersAllFaults_act cl x0 [.int 17, .int x1, .int 0, .int 0] h (gI (fun r_2 h_1 => Q (some (.int r_2)) h_1)) E
theorem wx_X0_often {l : Launch} (hst : l.stackTraces = false) {G : GG} {cl : CT} {lm : Nat × Nat} {Q : QT} {E : ET} {d2 : Nat} (hCl : CallsOK l G d2 cl ∧ hLm G lm ∧ 8 ≤ d2 ∧ LamsOK l G d2 cl) {x0 : Nat} {x1 : Int32} {h : HS} (hw : wb_X0_often cl lm Q E x0 x1 h) : HMet l G yX0_often (ws_ yX0_often cX0_often 2 ((Option.some Jvm.ClassFile.FieldType.int))) (d2 + 1) [.ref x0, .int x1] h Q E := by
  refine gh_met (own := RX0) rfl (by decide +kernel) hst (by simp only [lg_sl_i, lg_sl_r, lg_sl_a, lg_sl_2, lg_sl_f, lg_sl_0]; decide) (fun X hXl hXn hret hnm hTb h0 eh C S0 => ?_)
  subst hXl
  have hlm := hCl.2.1
  have hd8 := hCl.2.2.1
  have hd2 : 1 ≤ d2 := Nat.le_trans (by decide) hd8
  have hLa := hCl.2.2.2
  have hd1 : 1 ≤ d2 + 1 := Nat.le_add_left _ _
  have hC9 := hCl
  replace hCl := hCl.1
  have hini : True := trivial
  unfold wb_X0_often at hw
  refine GK.sub (lv' := [(0, .ref x0), (1, .int x1)]) [0, 1] (by simp only [lv_args_i, lv_args_r, lv_args_a, lv_args_l, lv_args_f, lv_args_0]; rfl) ?_
  refine gk_aload_n (pc := 0) C.1 0 dX0_often_0 rfl rfl ?_
  refine gk_bipush (pc := 1) (v := 17) C.1 dX0_often_1 (by decide) ?_
  refine gk_iload_n (pc := 3) C.1 1 dX0_often_3 rfl rfl ?_
  refine gk_iconst (pc := 4) (v := 0) C.1 dX0_often_4 (by decide) ?_
  refine gk_iconst (pc := 5) (v := 0) C.1 dX0_often_5 (by decide) ?_
  refine gc_X0_455 (pc := 6) (As := [.int 17, .int x1, .int 0, .int 0]) (rest := []) C hCl (Nat.le_refl _) hw rfl rfl (Nat.le_of_ble_eq_true rfl) dX0_often_6 (fun v9 h_1 hp => ?_) (fun q_3 h_4 hw ht9 => ?_)
  rotate_left
  · exact gx_out C S0 (by rw [hTb]; decide) ht9 hw
  clear hw
  obtain ⟨r_2, rfl, hw⟩ := hp
  refine GK.at (p2 := 9) rfl ?_
  exact gh_iret (pc := 9) C S0 hret dX0_often_9 hw
/-! 111: GathersAllFaults.oftenTold(I)I -/
def wb_X0_oftenTold_84 (cl : CT) (lm : Nat × Nat) (Q : QT) (E : ET) (J30 : Int32 → Nat → Option Nat → Nat → Int32 → HS → Prop) (x1 : Int32) (x2 : Nat) (x3 : Option Nat) (x4 : Nat) (x5 : Int32) (x6 : Option Nat) (h : HS) : Prop := ∃ a_1 : Nat, x6 = some a_1 ∧ ((hT h a_1 = 6) ∧ (∀ r_2 : Option Nat, r_2 = hR h 22 a_1 → (dp_HashMap_get cl x2 [va_rf r_2] h (gR (fun r_4 h_3 => ck_GathersAllFaults_Tally h_3 r_4 ∧ (∃ a_7 : Nat, r_4 = some a_7 ∧ ((hT h_3 a_7 = 18) ∧ ((hT h_3 a_7 = 18) ∧ (∀ h_8 : HS, h_8 = sI h_3 57 a_7 ((hI h_3 57 a_7) + 1) → (∀ x_9 : Int32, x_9 = x5 + 1 → (J30 x1 x2 x3 x4 x_9 h_8)))))))) E)))
theorem wk_X0_oftenTold_84 {X : Ev} {G : GG} {cl : CT} {lm : Nat × Nat} {Q : QT} {E : ET} {h0 : HS} {d2 : Nat} {J30 : Int32 → Nat → Option Nat → Nat → Int32 → HS → Prop} (C : HC X G RX0 cX0_oftenTold (d2 + 1)) (hCl : CallsOK (ev_l X) G d2 cl ∧ hLm G lm ∧ 8 ≤ d2 ∧ LamsOK (ev_l X) G d2 cl) (S0 : HS0 X h0) (hret : (ev_h X).sig.returnType = (Option.some Jvm.ClassFile.FieldType.int)) (hXn : ev_n X = 7) (hini : True) (hTb : (ev_c X).exceptionTable.toList = []) (hJ30 : ∀ (x1 : Int32) (x2 : Nat) (x3 : Option Nat) (x4 : Nat) (x5 : Int32) (h : HS), J30 x1 x2 x3 x4 x5 h → GH X G h (hQ X G h0 Q E) 30 [(1, .int x1), (2, .ref x2), (3, va_rf x3), (4, .ref x4), (5, .int x5)] []) : ∀ (x1 : Int32) (x2 : Nat) (x3 : Option Nat) (x4 : Nat) (x5 : Int32) (x6 : Option Nat) (h : HS), wb_X0_oftenTold_84 cl lm Q E J30 x1 x2 x3 x4 x5 x6 h → GH X G h (hQ X G h0 Q E) 84 [(1, .int x1), (2, .ref x2), (3, va_rf x3), (4, .ref x4), (5, .int x5), (6, va_rf x6)] [] := by
  have hlm := hCl.2.1
  have hd8 := hCl.2.2.1
  have hd2 : 1 ≤ d2 := Nat.le_trans (by decide) hd8
  have hLa := hCl.2.2.2
  have hd1 : 1 ≤ d2 + 1 := Nat.le_add_left _ _
  have hC9 := hCl
  replace hCl := hCl.1
  intro x1 x2 x3 x4 x5 x6 h hw
  unfold wb_X0_oftenTold_84 at hw
  refine gk_aload_n (pc := 84) C.1 1 dX0_oftenTold_84 rfl rfl ?_
  refine gk_qload (pc := 85) C.1 5 dX0_oftenTold_85 rfl ?_
  obtain ⟨a_1, rfl, hw⟩ := hw
  obtain ⟨ht, hw⟩ := hw
  refine gf_X0_160 (pc := 87) C ht dX0_oftenTold_87 (fun r_2 er_2 => ?_)
  replace hw := hw r_2 er_2
  refine gc_X0_273 (pc := 90) (As := [va_rf r_2]) (rest := []) C hCl (Nat.le_refl _) hw rfl rfl (Nat.le_of_ble_eq_true rfl) dX0_oftenTold_90 (fun v9 h_3 hp => ?_) (fun q_5 h_6 hw ht9 => ?_)
  rotate_left
  · exact gx_out C S0 (by rw [hTb]; decide) ht9 hw
  clear hw
  obtain ⟨r_4, rfl, hw⟩ := hp
  refine GK.at (p2 := 93) rfl ?_
  obtain ⟨hs, hw⟩ := hw
  refine gh_ckc (pc := 93) (r := r_4) C q1831 (ck_GathersAllFaults_Tally_ok hs) dX0_oftenTold_93 ?_
  refine gk_dup (pc := 96) C.1 dX0_oftenTold_96 (va_rf_cat _) ?_
  obtain ⟨a_7, rfl, hw⟩ := hw
  obtain ⟨ht, hw⟩ := hw
  refine gf_X0_277 (pc := 97) C ht dX0_oftenTold_97 ?_
  refine gk_iconst (pc := 100) (v := 1) C.1 dX0_oftenTold_100 (by decide) ?_
  refine gk_iadd (pc := 101) C.1 dX0_oftenTold_101 ?_
  obtain ⟨ht, hw⟩ := hw
  refine gfp_X0_277 (pc := 102) C ht dX0_oftenTold_102 (fun h_8 eh_8 => ?_)
  replace hw := hw h_8 eh_8
  obtain ⟨x_9, ex_9⟩ : ∃ z : Int32, z = x5 + 1 := ⟨_, rfl⟩
  replace hw := hw x_9 ex_9
  refine gk_iinc (pc := 105) (v := x_9) (lv' := [(5, Value.int x_9), (1, Value.int x1), (2, Value.ref x2), (3, va_rf x3), (4, Value.ref x4), (6, Value.ref a_1)]) C.1 4 dX0_oftenTold_105 rfl (by rw [ex_9]; rfl) (by rw [hXn]; decide) (by first | rfl | simp [va_rf_S, va_rf_cat, cat_i, cat_a, cat_l, cat_f, fin4_0, fin4_1, fin4_2, fin4_3]) ?_
  refine gk_goto (pc := 108) (tgt := 30) C.1 dX0_oftenTold_108 (by decide) ?_
  refine GK.sub (lv' := [(1, .int x1), (2, .ref x2), (3, va_rf x3), (4, .ref x4), (5, .int x_9)]) [1, 2, 3, 4, 0] rfl ?_
  exact hJ30 _ _ _ _ _ _ hw
def wb_X0_oftenTold_164 (cl : CT) (lm : Nat × Nat) (Q : QT) (E : ET) (J114 : Int32 → Nat → Option Nat → Option Nat → Int32 → HS → Prop) (x1 : Int32) (x2 : Nat) (x3 : Option Nat) (x5 : Int32) (s0 : Option Nat) (h : HS) : Prop := ∀ x_1 : Int32, x_1 = x5 + 1 → (J114 x1 x2 x3 s0 x_1 h)
theorem wk_X0_oftenTold_164 {X : Ev} {G : GG} {cl : CT} {lm : Nat × Nat} {Q : QT} {E : ET} {h0 : HS} {d2 : Nat} {J114 : Int32 → Nat → Option Nat → Option Nat → Int32 → HS → Prop} (C : HC X G RX0 cX0_oftenTold (d2 + 1)) (hCl : CallsOK (ev_l X) G d2 cl ∧ hLm G lm ∧ 8 ≤ d2 ∧ LamsOK (ev_l X) G d2 cl) (S0 : HS0 X h0) (hret : (ev_h X).sig.returnType = (Option.some Jvm.ClassFile.FieldType.int)) (hXn : ev_n X = 7) (hini : True) (hTb : (ev_c X).exceptionTable.toList = []) (hJ114 : ∀ (x1 : Int32) (x2 : Nat) (x3 : Option Nat) (x4 : Option Nat) (x5 : Int32) (h : HS), J114 x1 x2 x3 x4 x5 h → GH X G h (hQ X G h0 Q E) 114 [(1, .int x1), (2, .ref x2), (3, va_rf x3), (4, va_rf x4), (5, .int x5)] []) : ∀ (x1 : Int32) (x2 : Nat) (x3 : Option Nat) (x5 : Int32) (s0 : Option Nat) (h : HS), wb_X0_oftenTold_164 cl lm Q E J114 x1 x2 x3 x5 s0 h → GH X G h (hQ X G h0 Q E) 164 [(1, .int x1), (2, .ref x2), (3, va_rf x3), (5, .int x5)] [va_rf s0] := by
  have hlm := hCl.2.1
  have hd8 := hCl.2.2.1
  have hd2 : 1 ≤ d2 := Nat.le_trans (by decide) hd8
  have hLa := hCl.2.2.2
  have hd1 : 1 ≤ d2 + 1 := Nat.le_add_left _ _
  have hC9 := hCl
  replace hCl := hCl.1
  intro x1 x2 x3 x5 s0 h hw
  unfold wb_X0_oftenTold_164 at hw
  refine gk_qstore (pc := 164) (lv' := [(4, va_rf s0), (1, Value.int x1), (2, Value.ref x2), (3, va_rf x3), (5, Value.int x5)]) C.1 dX0_oftenTold_164 (by rw [hXn]; decide) (by first | rfl | simp [va_rf_S, va_rf_cat, cat_i, cat_a, cat_l, cat_f, fin4_0, fin4_1, fin4_2, fin4_3]) ?_
  obtain ⟨x_1, ex_1⟩ : ∃ z : Int32, z = x5 + 1 := ⟨_, rfl⟩
  replace hw := hw x_1 ex_1
  refine gk_iinc (pc := 166) (v := x_1) (lv' := [(5, Value.int x_1), (4, va_rf s0), (1, Value.int x1), (2, Value.ref x2), (3, va_rf x3)]) C.1 4 dX0_oftenTold_166 rfl (by rw [ex_1]; rfl) (by rw [hXn]; decide) (by first | rfl | simp [va_rf_S, va_rf_cat, cat_i, cat_a, cat_l, cat_f, fin4_0, fin4_1, fin4_2, fin4_3]) ?_
  refine gk_goto (pc := 169) (tgt := 114) C.1 dX0_oftenTold_169 (by decide) ?_
  refine GK.sub (lv' := [(1, .int x1), (2, .ref x2), (3, va_rf x3), (4, va_rf s0), (5, .int x_1)]) [2, 3, 4, 1, 0] rfl ?_
  exact hJ114 _ _ _ _ _ _ hw
def wb_X0_oftenTold_114 (cl : CT) (lm : Nat × Nat) (Q : QT) (E : ET) : Nat → Int32 → Nat → Option Nat → Option Nat → Int32 → HS → Prop
  | 0 => fun _ _ _ _ _ _ => False
  | n + 1 => fun x1 x2 x3 x4 x5 h => ∃ a_1 : Nat, x3 = some a_1 ∧ ((hT h a_1 = 7) ∧ ((((hI h 24 a_1) ≤ x5 → (((¬ x1 = 0 → (∃ a_4 : Nat, x4 = some a_4 ∧ ((hT h a_4 = 18) ∧ (Q (some (.int (hI h 57 a_4))) h)))) ∧ (x1 = 0 → (∃ a_5 : Nat, x4 = some a_5 ∧ ((hT h a_5 = 18) ∧ (Q (some (.int (hI h 58 a_5))) h))))))) ∧ (¬ (hI h 24 a_1) ≤ x5 → (dp_Row_at cl a_1 [.int x5] h (gR (fun r_7 h_6 => ck_GathersAllFaults_Part h_6 r_7 ∧ (∃ a_10 : Nat, r_7 = some a_10 ∧ ((hT h_6 a_10 = 6) ∧ (∀ r_11 : Option Nat, r_11 = hR h_6 22 a_10 → (dp_HashMap_get cl x2 [va_rf r_11] h_6 (gR (fun r_13 h_12 => ck_GathersAllFaults_Tally h_12 r_13 ∧ (∃ a_16 : Nat, r_13 = some a_16 ∧ ((hT h_12 a_16 = 18) ∧ (∃ a_17 : Nat, x4 = some a_17 ∧ ((hT h_12 a_17 = 18) ∧ ((((hI h_12 57 a_16) ≤ (hI h_12 57 a_17) → (wb_X0_oftenTold_164 cl lm Q E (fun yx1 yx2 yx3 yx4 yx5 yh => wb_X0_oftenTold_114 cl lm Q E n yx1 yx2 yx3 yx4 yx5 yh) x1 x2 (some a_1) x5 (some a_17) h_12)) ∧ (¬ (hI h_12 57 a_16) ≤ (hI h_12 57 a_17) → (wb_X0_oftenTold_164 cl lm Q E (fun yx1 yx2 yx3 yx4 yx5 yh => wb_X0_oftenTold_114 cl lm Q E n yx1 yx2 yx3 yx4 yx5 yh) x1 x2 (some a_1) x5 (some a_16) h_12)))))))))) E)))))) E)))))
theorem wk_X0_oftenTold_114 {X : Ev} {G : GG} {cl : CT} {lm : Nat × Nat} {Q : QT} {E : ET} {h0 : HS} {d2 : Nat} (C : HC X G RX0 cX0_oftenTold (d2 + 1)) (hCl : CallsOK (ev_l X) G d2 cl ∧ hLm G lm ∧ 8 ≤ d2 ∧ LamsOK (ev_l X) G d2 cl) (S0 : HS0 X h0) (hret : (ev_h X).sig.returnType = (Option.some Jvm.ClassFile.FieldType.int)) (hXn : ev_n X = 7) (hini : True) (hTb : (ev_c X).exceptionTable.toList = []) : ∀ (n : Nat) (x1 : Int32) (x2 : Nat) (x3 : Option Nat) (x4 : Option Nat) (x5 : Int32) (h : HS), wb_X0_oftenTold_114 cl lm Q E n x1 x2 x3 x4 x5 h → GH X G h (hQ X G h0 Q E) 114 [(1, .int x1), (2, .ref x2), (3, va_rf x3), (4, va_rf x4), (5, .int x5)] [] := by
  have hlm := hCl.2.1
  have hd8 := hCl.2.2.1
  have hd2 : 1 ≤ d2 := Nat.le_trans (by decide) hd8
  have hLa := hCl.2.2.2
  have hd1 : 1 ≤ d2 + 1 := Nat.le_add_left _ _
  have hC9 := hCl
  replace hCl := hCl.1
  intro n
  induction n with
  | zero => intro x1 x2 x3 x4 x5 h hw; exact hw.elim
  | succ n ih =>
  intro x1 x2 x3 x4 x5 h hw
  unfold wb_X0_oftenTold_114 at hw
  refine gk_iload (pc := 114) C.1 4 dX0_oftenTold_114 rfl ?_
  refine gk_qload_n (pc := 116) C.1 2 dX0_oftenTold_116 rfl rfl ?_
  obtain ⟨a_1, rfl, hw⟩ := hw
  obtain ⟨ht, hw⟩ := hw
  refine gf_X0_149 (pc := 117) C ht dX0_oftenTold_117 ?_
  refine gk_icmp_ge (pc := 120) (tgt := 172) C.1 dX0_oftenTold_120 (by decide) (fun c_2 => ?_) (fun c_2 => ?_)
  · replace hw := hw.1 c_2
    refine gk_iload_n (pc := 172) C.1 0 dX0_oftenTold_172 rfl rfl ?_
    refine gk_if_ne (pc := 173) (tgt := 184) C.1 dX0_oftenTold_173 (by decide) (fun c_3 => ?_) (fun c_3 => ?_)
    · replace hw := hw.1 c_3
      refine gk_qload (pc := 184) C.1 3 dX0_oftenTold_184 rfl ?_
      obtain ⟨a_4, rfl, hw⟩ := hw
      obtain ⟨ht, hw⟩ := hw
      refine gf_X0_277 (pc := 186) C ht dX0_oftenTold_186 ?_
      exact gh_iret (pc := 189) C S0 hret dX0_oftenTold_189 hw
    · replace hw := hw.2 c_3
      refine gk_qload (pc := 176) C.1 3 dX0_oftenTold_176 rfl ?_
      obtain ⟨a_5, rfl, hw⟩ := hw
      obtain ⟨ht, hw⟩ := hw
      refine gf_X0_278 (pc := 178) C ht dX0_oftenTold_178 ?_
      refine gk_goto (pc := 181) (tgt := 189) C.1 dX0_oftenTold_181 (by decide) ?_
      exact gh_iret (pc := 189) C S0 hret dX0_oftenTold_189 hw
  · replace hw := hw.2 c_2
    refine gk_aload_n (pc := 123) C.1 1 dX0_oftenTold_123 rfl rfl ?_
    refine gk_aload_n (pc := 124) C.1 2 dX0_oftenTold_124 rfl rfl ?_
    refine gk_iload (pc := 125) C.1 4 dX0_oftenTold_125 rfl ?_
    refine gc_X0_152 (pc := 127) (As := [.int x5]) (rest := [.ref x2]) C hCl (Nat.le_refl _) hw rfl rfl (Nat.le_of_ble_eq_true rfl) dX0_oftenTold_127 (fun v9 h_6 hp => ?_) (fun q_8 h_9 hw ht9 => ?_)
    rotate_left
    · exact gx_out C S0 (by rw [hTb]; decide) ht9 hw
    clear hw
    obtain ⟨r_7, rfl, hw⟩ := hp
    refine GK.at (p2 := 130) rfl ?_
    obtain ⟨hs, hw⟩ := hw
    refine gh_ckc (pc := 130) (r := r_7) C q1641 (ck_GathersAllFaults_Part_ok hs) dX0_oftenTold_130 ?_
    obtain ⟨a_10, rfl, hw⟩ := hw
    obtain ⟨ht, hw⟩ := hw
    refine gf_X0_160 (pc := 133) C ht dX0_oftenTold_133 (fun r_11 er_11 => ?_)
    replace hw := hw r_11 er_11
    refine gc_X0_273 (pc := 136) (As := [va_rf r_11]) (rest := []) C hCl (Nat.le_refl _) hw rfl rfl (Nat.le_of_ble_eq_true rfl) dX0_oftenTold_136 (fun v9 h_12 hp => ?_) (fun q_14 h_15 hw ht9 => ?_)
    rotate_left
    · exact gx_out C S0 (by rw [hTb]; decide) ht9 hw
    clear hw
    obtain ⟨r_13, rfl, hw⟩ := hp
    refine GK.at (p2 := 139) rfl ?_
    obtain ⟨hs, hw⟩ := hw
    refine gh_ckc (pc := 139) (r := r_13) C q1831 (ck_GathersAllFaults_Tally_ok hs) dX0_oftenTold_139 ?_
    refine gk_qstore (pc := 142) (lv' := [(6, va_rf r_13), (1, Value.int x1), (2, Value.ref x2), (3, Value.ref a_1), (4, va_rf x4), (5, Value.int x5)]) C.1 dX0_oftenTold_142 (by rw [hXn]; decide) (by first | rfl | simp [va_rf_S, va_rf_cat, cat_i, cat_a, cat_l, cat_f, fin4_0, fin4_1, fin4_2, fin4_3]) ?_
    refine gk_qload (pc := 144) C.1 0 dX0_oftenTold_144 rfl ?_
    obtain ⟨a_16, rfl, hw⟩ := hw
    obtain ⟨ht, hw⟩ := hw
    refine gf_X0_277 (pc := 146) C ht dX0_oftenTold_146 ?_
    refine gk_qload (pc := 149) C.1 4 dX0_oftenTold_149 rfl ?_
    obtain ⟨a_17, rfl, hw⟩ := hw
    obtain ⟨ht, hw⟩ := hw
    refine gf_X0_277 (pc := 151) C ht dX0_oftenTold_151 ?_
    refine gk_icmp_le (pc := 154) (tgt := 162) C.1 dX0_oftenTold_154 (by decide) (fun c_18 => ?_) (fun c_18 => ?_)
    · replace hw := hw.1 c_18
      refine gk_aload (pc := 162) C.1 4 dX0_oftenTold_162 rfl ?_
      refine GK.sub (lv' := [(1, .int x1), (2, .ref x2), (3, va_rf (some a_1)), (5, .int x5)]) [1, 2, 3, 5] rfl ?_
      exact wk_X0_oftenTold_164 C hC9 S0 hret hXn hini hTb ih _ _ _ _ _ _ hw
    · replace hw := hw.2 c_18
      refine gk_aload (pc := 157) C.1 0 dX0_oftenTold_157 rfl ?_
      refine gk_goto (pc := 159) (tgt := 164) C.1 dX0_oftenTold_159 (by decide) ?_
      refine GK.sub (lv' := [(1, .int x1), (2, .ref x2), (3, va_rf (some a_1)), (5, .int x5)]) [1, 2, 3, 5] rfl ?_
      exact wk_X0_oftenTold_164 C hC9 S0 hret hXn hini hTb ih _ _ _ _ _ _ hw
def wb_X0_oftenTold_30 (cl : CT) (lm : Nat × Nat) (Q : QT) (E : ET) : Nat → Int32 → Nat → Option Nat → Nat → Int32 → HS → Prop
  | 0 => fun _ _ _ _ _ _ => False
  | n + 1 => fun x1 x2 x3 x4 x5 h => ∃ a_1 : Nat, x3 = some a_1 ∧ ((hT h a_1 = 7) ∧ ((((hI h 24 a_1) ≤ x5 → (∃ fu : Nat, wb_X0_oftenTold_114 cl lm Q E fu x1 x2 (some a_1) (some x4) 0 h)) ∧ (¬ (hI h 24 a_1) ≤ x5 → (dp_Row_at cl a_1 [.int x5] h (gR (fun r_4 h_3 => ck_GathersAllFaults_Part h_3 r_4 ∧ (∃ a_7 : Nat, r_4 = some a_7 ∧ ((hT h_3 a_7 = 6) ∧ (∀ r_8 : Option Nat, r_8 = hR h_3 22 a_7 → (dp_HashMap_containsKey cl x2 [va_rf r_8] h_3 (gI (fun r_10 h_9 => ((¬ r_10 = 0 → (wb_X0_oftenTold_84 cl lm Q E (fun yx1 yx2 yx3 yx4 yx5 yh => wb_X0_oftenTold_30 cl lm Q E n yx1 yx2 yx3 yx4 yx5 yh) x1 x2 (some a_1) x4 x5 (some a_7) h_9)) ∧ (r_10 = 0 → ((hT h_9 a_7 = 6) ∧ (∀ r_14 : Option Nat, r_14 = hR h_9 22 a_7 → (hZ h_9 + 1 ≤ lm.1 ∧ (hL h_9 + 2 ≤ lm.2 ∧ (∀ (a_16 : Nat) (h_15 : HS), a_16 = hZ h_9 → h_15 = hNew h_9 18 0 2 → ((hT h_15 a_7 = 6) ∧ (cl 250 (.ref a_16 :: [.int (hI h_15 21 a_7)]) h_15 (gV (fun h_17 => dp_HashMap_put cl x2 [va_rf r_14, .ref a_16] h_17 (gR (fun r_21 h_20 => wb_X0_oftenTold_84 cl lm Q E (fun yx1 yx2 yx3 yx4 yx5 yh => wb_X0_oftenTold_30 cl lm Q E n yx1 yx2 yx3 yx4 yx5 yh) x1 x2 (some a_1) x4 x5 (some a_7) h_20)) E)) E))))))))))) E)))))) E)))))
theorem wk_X0_oftenTold_30 {X : Ev} {G : GG} {cl : CT} {lm : Nat × Nat} {Q : QT} {E : ET} {h0 : HS} {d2 : Nat} (C : HC X G RX0 cX0_oftenTold (d2 + 1)) (hCl : CallsOK (ev_l X) G d2 cl ∧ hLm G lm ∧ 8 ≤ d2 ∧ LamsOK (ev_l X) G d2 cl) (S0 : HS0 X h0) (hret : (ev_h X).sig.returnType = (Option.some Jvm.ClassFile.FieldType.int)) (hXn : ev_n X = 7) (hini : True) (hTb : (ev_c X).exceptionTable.toList = []) : ∀ (n : Nat) (x1 : Int32) (x2 : Nat) (x3 : Option Nat) (x4 : Nat) (x5 : Int32) (h : HS), wb_X0_oftenTold_30 cl lm Q E n x1 x2 x3 x4 x5 h → GH X G h (hQ X G h0 Q E) 30 [(1, .int x1), (2, .ref x2), (3, va_rf x3), (4, .ref x4), (5, .int x5)] [] := by
  have hlm := hCl.2.1
  have hd8 := hCl.2.2.1
  have hd2 : 1 ≤ d2 := Nat.le_trans (by decide) hd8
  have hLa := hCl.2.2.2
  have hd1 : 1 ≤ d2 + 1 := Nat.le_add_left _ _
  have hC9 := hCl
  replace hCl := hCl.1
  intro n
  induction n with
  | zero => intro x1 x2 x3 x4 x5 h hw; exact hw.elim
  | succ n ih =>
  intro x1 x2 x3 x4 x5 h hw
  unfold wb_X0_oftenTold_30 at hw
  refine gk_iload (pc := 30) C.1 4 dX0_oftenTold_30 rfl ?_
  refine gk_qload_n (pc := 32) C.1 2 dX0_oftenTold_32 rfl rfl ?_
  obtain ⟨a_1, rfl, hw⟩ := hw
  obtain ⟨ht, hw⟩ := hw
  refine gf_X0_149 (pc := 33) C ht dX0_oftenTold_33 ?_
  refine gk_icmp_ge (pc := 36) (tgt := 111) C.1 dX0_oftenTold_36 (by decide) (fun c_2 => ?_) (fun c_2 => ?_)
  · replace hw := hw.1 c_2
    refine gk_iconst (pc := 111) (v := 0) C.1 dX0_oftenTold_111 (by decide) ?_
    refine gk_istore (pc := 112) (lv' := [(5, Value.int 0), (1, Value.int x1), (2, Value.ref x2), (3, Value.ref a_1), (4, Value.ref x4)]) C.1 dX0_oftenTold_112 (by rw [hXn]; decide) (by first | rfl | simp [va_rf_S, va_rf_cat, cat_i, cat_a, cat_l, cat_f, fin4_0, fin4_1, fin4_2, fin4_3]) ?_
    refine GK.sub (lv' := [(1, .int x1), (2, .ref x2), (3, va_rf (some a_1)), (4, va_rf (some x4)), (5, .int 0)]) [1, 2, 3, 4, 0] rfl ?_
    obtain ⟨n9, hw⟩ := hw
    exact wk_X0_oftenTold_114 C hC9 S0 hret hXn hini hTb  n9 _ _ _ _ _ _ hw
  · replace hw := hw.2 c_2
    refine gk_aload_n (pc := 39) C.1 2 dX0_oftenTold_39 rfl rfl ?_
    refine gk_iload (pc := 40) C.1 4 dX0_oftenTold_40 rfl ?_
    refine gc_X0_152 (pc := 42) (As := [.int x5]) (rest := []) C hCl (Nat.le_refl _) hw rfl rfl (Nat.le_of_ble_eq_true rfl) dX0_oftenTold_42 (fun v9 h_3 hp => ?_) (fun q_5 h_6 hw ht9 => ?_)
    rotate_left
    · exact gx_out C S0 (by rw [hTb]; decide) ht9 hw
    clear hw
    obtain ⟨r_4, rfl, hw⟩ := hp
    refine GK.at (p2 := 45) rfl ?_
    obtain ⟨hs, hw⟩ := hw
    refine gh_ckc (pc := 45) (r := r_4) C q1641 (ck_GathersAllFaults_Part_ok hs) dX0_oftenTold_45 ?_
    refine gk_qstore (pc := 48) (lv' := [(6, va_rf r_4), (1, Value.int x1), (2, Value.ref x2), (3, Value.ref a_1), (4, Value.ref x4), (5, Value.int x5)]) C.1 dX0_oftenTold_48 (by rw [hXn]; decide) (by first | rfl | simp [va_rf_S, va_rf_cat, cat_i, cat_a, cat_l, cat_f, fin4_0, fin4_1, fin4_2, fin4_3]) ?_
    refine gk_aload_n (pc := 50) C.1 2 dX0_oftenTold_50 rfl rfl ?_
    refine gk_qload (pc := 51) C.1 0 dX0_oftenTold_51 rfl ?_
    obtain ⟨a_7, rfl, hw⟩ := hw
    obtain ⟨ht, hw⟩ := hw
    refine gf_X0_160 (pc := 53) C ht dX0_oftenTold_53 (fun r_8 er_8 => ?_)
    replace hw := hw r_8 er_8
    refine gc_X0_269 (pc := 56) (As := [va_rf r_8]) (rest := []) C hCl (Nat.le_refl _) hw rfl rfl (Nat.le_of_ble_eq_true rfl) dX0_oftenTold_56 (fun v9 h_9 hp => ?_) (fun q_11 h_12 hw ht9 => ?_)
    rotate_left
    · exact gx_out C S0 (by rw [hTb]; decide) ht9 hw
    clear hw
    obtain ⟨r_10, rfl, hw⟩ := hp
    refine GK.at (p2 := 59) rfl ?_
    refine gk_if_ne (pc := 59) (tgt := 84) C.1 dX0_oftenTold_59 (by decide) (fun c_13 => ?_) (fun c_13 => ?_)
    · replace hw := hw.1 c_13
      refine GK.sub (lv' := [(1, .int x1), (2, .ref x2), (3, va_rf (some a_1)), (4, .ref x4), (5, .int x5), (6, va_rf (some a_7))]) [1, 2, 3, 4, 5, 0] rfl ?_
      exact wk_X0_oftenTold_84 C hC9 S0 hret hXn hini hTb ih _ _ _ _ _ _ _ hw
    · replace hw := hw.2 c_13
      refine gk_aload_n (pc := 62) C.1 2 dX0_oftenTold_62 rfl rfl ?_
      refine gk_aload (pc := 63) C.1 0 dX0_oftenTold_63 rfl ?_
      obtain ⟨ht, hw⟩ := hw
      refine gf_X0_160 (pc := 65) C ht dX0_oftenTold_65 (fun r_14 er_14 => ?_)
      replace hw := hw r_14 er_14
      obtain ⟨hr1, hr2, hw⟩ := hw
      refine gn_X0_266 (pc := 68) C (hlm.1 ▸ hr1) (hlm.2 ▸ hr2) dX0_oftenTold_68 (fun h_15 eh_15 => ?_)
      obtain ⟨a_16, ea_16⟩ : ∃ z : Nat, z = hZ h_9 := ⟨_, rfl⟩
      rw [← ea_16]
      replace hw := hw a_16 h_15 ea_16 eh_15
      refine gk_dup (pc := 71) C.1 dX0_oftenTold_71 rfl ?_
      refine gk_aload (pc := 72) C.1 0 dX0_oftenTold_72 rfl ?_
      obtain ⟨ht, hw⟩ := hw
      refine gf_X0_157 (pc := 74) C ht dX0_oftenTold_74 ?_
      refine gc_X0_268 (pc := 77) (As := [.int (hI h_15 21 a_7)]) (rest := [.ref a_16, va_rf r_14, .ref x2]) C hCl (Nat.le_refl _) hw rfl rfl (by simp [va_rf_S, va_rf_cat, cat_i, cat_a, cat_l, cat_f, fin4_0, fin4_1, fin4_2, fin4_3]) dX0_oftenTold_77 (fun v9 h_17 hp => ?_) (fun q_18 h_19 hw ht9 => ?_)
      rotate_left
      · exact gx_out C S0 (by rw [hTb]; decide) ht9 hw
      clear hw
      obtain ⟨rfl, hw⟩ := hp
      refine GK.at (p2 := 80) rfl ?_
      refine gc_X0_272 (pc := 80) (As := [va_rf r_14, .ref a_16]) (rest := []) C hCl (Nat.le_refl _) hw rfl rfl (Nat.le_of_ble_eq_true rfl) dX0_oftenTold_80 (fun v9 h_20 hp => ?_) (fun q_22 h_23 hw ht9 => ?_)
      rotate_left
      · exact gx_out C S0 (by rw [hTb]; decide) ht9 hw
      clear hw
      obtain ⟨r_21, rfl, hw⟩ := hp
      refine GK.at (p2 := 83) rfl ?_
      refine gk_pop (pc := 83) C.1 dX0_oftenTold_83 (va_rf_cat _) ?_
      refine GK.sub (lv' := [(1, .int x1), (2, .ref x2), (3, va_rf (some a_1)), (4, .ref x4), (5, .int x5), (6, va_rf (some a_7))]) [1, 2, 3, 4, 5, 0] rfl ?_
      exact wk_X0_oftenTold_84 C hC9 S0 hret hXn hini hTb ih _ _ _ _ _ _ _ hw
def wb_X0_oftenTold (cl : CT) (lm : Nat × Nat) (Q : QT) (E : ET) (x0 : Nat) (x1 : Int32) (h : HS) : Prop := cl 105 [.int x1] h (gV (fun h_1 => hZ h_1 + 1 ≤ lm.1 ∧ (hL h_1 + 8 ≤ lm.2 ∧ (∀ (a_5 : Nat) (h_4 : HS), a_5 = hZ h_1 → h_4 = hNew h_1 19 0 8 → (cl 7 (.ref a_5 :: []) h_4 (gV (fun h_6 => dp_GathersAllFaults_parts cl x0 [] h_6 (gR (fun r_10 h_9 => hZ h_9 + 1 ≤ lm.1 ∧ (hL h_9 + 2 ≤ lm.2 ∧ (∀ (a_14 : Nat) (h_13 : HS), a_14 = hZ h_9 → h_13 = hNew h_9 18 0 2 → (cl 250 (.ref a_14 :: [.int 0]) h_13 (gV (fun h_15 => ∃ fu : Nat, wb_X0_oftenTold_30 cl lm Q E fu x1 a_5 r_10 a_14 0 h_15)) E))))) E)) E))))) E
theorem wx_X0_oftenTold {l : Launch} (hst : l.stackTraces = false) {G : GG} {cl : CT} {lm : Nat × Nat} {Q : QT} {E : ET} {d2 : Nat} (hCl : CallsOK l G d2 cl ∧ hLm G lm ∧ 8 ≤ d2 ∧ LamsOK l G d2 cl) {x0 : Nat} {x1 : Int32} {h : HS} (hw : wb_X0_oftenTold cl lm Q E x0 x1 h) : HMet l G yX0_oftenTold (ws_ yX0_oftenTold cX0_oftenTold 7 ((Option.some Jvm.ClassFile.FieldType.int))) (d2 + 1) [.ref x0, .int x1] h Q E := by
  refine gh_met (own := RX0) rfl (by decide +kernel) hst (by simp only [lg_sl_i, lg_sl_r, lg_sl_a, lg_sl_2, lg_sl_f, lg_sl_0]; decide) (fun X hXl hXn hret hnm hTb h0 eh C S0 => ?_)
  subst hXl
  have hlm := hCl.2.1
  have hd8 := hCl.2.2.1
  have hd2 : 1 ≤ d2 := Nat.le_trans (by decide) hd8
  have hLa := hCl.2.2.2
  have hd1 : 1 ≤ d2 + 1 := Nat.le_add_left _ _
  have hC9 := hCl
  replace hCl := hCl.1
  have hini : True := trivial
  unfold wb_X0_oftenTold at hw
  refine GK.sub (lv' := [(0, .ref x0), (1, .int x1)]) [0, 1] (by simp only [lv_args_i, lv_args_r, lv_args_a, lv_args_l, lv_args_f, lv_args_0]; rfl) ?_
  refine gk_iload_n (pc := 0) C.1 1 dX0_oftenTold_0 rfl rfl ?_
  refine gc_X0_226 (pc := 1) (As := [.int x1]) (rest := []) C hCl (Nat.le_refl _) hw rfl rfl (Nat.le_of_ble_eq_true rfl) dX0_oftenTold_1 (fun v9 h_1 hp => ?_) (fun q_2 h_3 hw ht9 => ?_)
  rotate_left
  · exact gx_out C S0 (by rw [hTb]; decide) ht9 hw
  clear hw
  obtain ⟨rfl, hw⟩ := hp
  refine GK.at (p2 := 4) rfl ?_
  obtain ⟨hr1, hr2, hw⟩ := hw
  refine gn_X0_263 (pc := 4) C (hlm.1 ▸ hr1) (hlm.2 ▸ hr2) dX0_oftenTold_4 (fun h_4 eh_4 => ?_)
  obtain ⟨a_5, ea_5⟩ : ∃ z : Nat, z = hZ h_1 := ⟨_, rfl⟩
  rw [← ea_5]
  replace hw := hw a_5 h_4 ea_5 eh_4
  refine gk_dup (pc := 7) C.1 dX0_oftenTold_7 rfl ?_
  refine gc_X0_265 (pc := 8) (As := []) (rest := [.ref a_5]) C hCl (Nat.le_refl _) hw rfl rfl (Nat.le_of_ble_eq_true rfl) dX0_oftenTold_8 (fun v9 h_6 hp => ?_) (fun q_7 h_8 hw ht9 => ?_)
  rotate_left
  · exact gx_out C S0 (by rw [hTb]; decide) ht9 hw
  clear hw
  obtain ⟨rfl, hw⟩ := hp
  refine GK.at (p2 := 11) rfl ?_
  refine gk_astore_n (pc := 11) (lv' := [(2, Value.ref a_5), (0, Value.ref x0), (1, Value.int x1)]) C.1 dX0_oftenTold_11 rfl (by rw [hXn]; decide) (by first | rfl | simp [va_rf_S, va_rf_cat, cat_i, cat_a, cat_l, cat_f, fin4_0, fin4_1, fin4_2, fin4_3]) ?_
  refine gk_aload_n (pc := 12) C.1 1 dX0_oftenTold_12 rfl rfl ?_
  refine gc_X0_145 (pc := 13) (As := []) (rest := []) C hCl (Nat.le_refl _) hw rfl rfl (Nat.le_of_ble_eq_true rfl) dX0_oftenTold_13 (fun v9 h_9 hp => ?_) (fun q_11 h_12 hw ht9 => ?_)
  rotate_left
  · exact gx_out C S0 (by rw [hTb]; decide) ht9 hw
  clear hw
  obtain ⟨r_10, rfl, hw⟩ := hp
  refine GK.at (p2 := 16) rfl ?_
  refine gk_qstore_n (pc := 16) (lv' := [(3, va_rf r_10), (2, Value.ref a_5), (0, Value.ref x0), (1, Value.int x1)]) C.1 dX0_oftenTold_16 rfl (by rw [hXn]; decide) (by first | rfl | simp [va_rf_S, va_rf_cat, cat_i, cat_a, cat_l, cat_f, fin4_0, fin4_1, fin4_2, fin4_3]) ?_
  obtain ⟨hr1, hr2, hw⟩ := hw
  refine gn_X0_266 (pc := 17) C (hlm.1 ▸ hr1) (hlm.2 ▸ hr2) dX0_oftenTold_17 (fun h_13 eh_13 => ?_)
  obtain ⟨a_14, ea_14⟩ : ∃ z : Nat, z = hZ h_9 := ⟨_, rfl⟩
  rw [← ea_14]
  replace hw := hw a_14 h_13 ea_14 eh_13
  refine gk_dup (pc := 20) C.1 dX0_oftenTold_20 rfl ?_
  refine gk_iconst (pc := 21) (v := 0) C.1 dX0_oftenTold_21 (by decide) ?_
  refine gc_X0_268 (pc := 22) (As := [.int 0]) (rest := [.ref a_14]) C hCl (Nat.le_refl _) hw rfl rfl (Nat.le_of_ble_eq_true rfl) dX0_oftenTold_22 (fun v9 h_15 hp => ?_) (fun q_16 h_17 hw ht9 => ?_)
  rotate_left
  · exact gx_out C S0 (by rw [hTb]; decide) ht9 hw
  clear hw
  obtain ⟨rfl, hw⟩ := hp
  refine GK.at (p2 := 25) rfl ?_
  refine gk_astore (pc := 25) (lv' := [(4, Value.ref a_14), (3, va_rf r_10), (2, Value.ref a_5), (0, Value.ref x0), (1, Value.int x1)]) C.1 dX0_oftenTold_25 (by rw [hXn]; decide) (by first | rfl | simp [va_rf_S, va_rf_cat, cat_i, cat_a, cat_l, cat_f, fin4_0, fin4_1, fin4_2, fin4_3]) ?_
  refine gk_iconst (pc := 27) (v := 0) C.1 dX0_oftenTold_27 (by decide) ?_
  refine gk_istore (pc := 28) (lv' := [(5, Value.int 0), (4, Value.ref a_14), (3, va_rf r_10), (2, Value.ref a_5), (0, Value.ref x0), (1, Value.int x1)]) C.1 dX0_oftenTold_28 (by rw [hXn]; decide) (by first | rfl | simp [va_rf_S, va_rf_cat, cat_i, cat_a, cat_l, cat_f, fin4_0, fin4_1, fin4_2, fin4_3]) ?_
  refine GK.sub (lv' := [(1, .int x1), (2, .ref a_5), (3, va_rf r_10), (4, .ref a_14), (5, .int 0)]) [5, 3, 2, 1, 0] rfl ?_
  obtain ⟨n9, hw⟩ := hw
  exact wk_X0_oftenTold_30 C hC9 S0 hret hXn hini hTb  n9 _ _ _ _ _ _ hw
/-! 112: GathersAllFaults.on()I -/
def wb_X0_on (cl : CT) (lm : Nat × Nat) (Q : QT) (E : ET) (x0 : Nat) (h : HS) : Prop := dp_GathersAllFaults_act cl x0 [.int 27, .int 0, .int 0, .int 0] h (gI (fun r_2 h_1 => Q (some (.int r_2)) h_1)) E
theorem wx_X0_on {l : Launch} (hst : l.stackTraces = false) {G : GG} {cl : CT} {lm : Nat × Nat} {Q : QT} {E : ET} {d2 : Nat} (hCl : CallsOK l G d2 cl ∧ hLm G lm ∧ 8 ≤ d2 ∧ LamsOK l G d2 cl) {x0 : Nat} {h : HS} (hw : wb_X0_on cl lm Q E x0 h) : HMet l G yX0_on (ws_ yX0_on cX0_on 1 ((Option.some Jvm.ClassFile.FieldType.int))) (d2 + 1) [.ref x0] h Q E := by
  refine gh_met (own := RX0) rfl (by decide +kernel) hst (by simp only [lg_sl_i, lg_sl_r, lg_sl_a, lg_sl_2, lg_sl_f, lg_sl_0]; decide) (fun X hXl hXn hret hnm hTb h0 eh C S0 => ?_)
  subst hXl
  have hlm := hCl.2.1
  have hd8 := hCl.2.2.1
  have hd2 : 1 ≤ d2 := Nat.le_trans (by decide) hd8
  have hLa := hCl.2.2.2
  have hd1 : 1 ≤ d2 + 1 := Nat.le_add_left _ _
  have hC9 := hCl
  replace hCl := hCl.1
  have hini : True := trivial
  unfold wb_X0_on at hw
  refine GK.sub (lv' := [(0, .ref x0)]) [0] (by simp only [lv_args_i, lv_args_r, lv_args_a, lv_args_l, lv_args_f, lv_args_0]; rfl) ?_
  refine gk_aload_n (pc := 0) C.1 0 dX0_on_0 rfl rfl ?_
  refine gk_bipush (pc := 1) (v := 27) C.1 dX0_on_1 (by decide) ?_
  refine gk_iconst (pc := 3) (v := 0) C.1 dX0_on_3 (by decide) ?_
  refine gk_iconst (pc := 4) (v := 0) C.1 dX0_on_4 (by decide) ?_
  refine gk_iconst (pc := 5) (v := 0) C.1 dX0_on_5 (by decide) ?_
  refine gc_X0_455 (pc := 6) (As := [.int 27, .int 0, .int 0, .int 0]) (rest := []) C hCl (Nat.le_refl _) hw rfl rfl (Nat.le_of_ble_eq_true rfl) dX0_on_6 (fun v9 h_1 hp => ?_) (fun q_3 h_4 hw ht9 => ?_)
  rotate_left
  · exact gx_out C S0 (by rw [hTb]; decide) ht9 hw
  clear hw
  obtain ⟨r_2, rfl, hw⟩ := hp
  refine GK.at (p2 := 9) rfl ?_
  exact gh_iret (pc := 9) C S0 hret dX0_on_9 hw
/-! 113: GathersAllFaults.onIt()I -/
def wb_X0_onIt (cl : CT) (lm : Nat × Nat) (Q : QT) (E : ET) (x0 : Nat) (h : HS) : Prop := (hT h x0 = 1) ∧ (cl 104 [.int (hI h 4 x0), .int (-3)] h (gV (fun h_1 => (hT h_1 x0 = 1) ∧ (∀ r_4 : Option Nat, r_4 = hR h_1 2 x0 → ((hT h_1 x0 = 1) ∧ (∀ h_5 : HS, h_5 = sR h_1 0 x0 r_4 → ((hT h_5 x0 = 1) ∧ (∀ r_6 : Option Nat, r_6 = hR h_5 3 x0 → ((hT h_5 x0 = 1) ∧ (∀ h_7 : HS, h_7 = sR h_5 1 x0 r_6 → ((hT h_7 x0 = 1) ∧ (∀ r_8 : Option Nat, r_8 = hR h_7 0 x0 → (∃ a_9 : Nat, r_8 = some a_9 ∧ (dp_Value_size cl a_9 [] h_7 (gI (fun r_11 h_10 => Q (some (.int r_11)) h_10)) E))))))))))))) E)
theorem wx_X0_onIt {l : Launch} (hst : l.stackTraces = false) {G : GG} {cl : CT} {lm : Nat × Nat} {Q : QT} {E : ET} {d2 : Nat} (hCl : CallsOK l G d2 cl ∧ hLm G lm ∧ 8 ≤ d2 ∧ LamsOK l G d2 cl) {x0 : Nat} {h : HS} (hw : wb_X0_onIt cl lm Q E x0 h) : HMet l G yX0_onIt (ws_ yX0_onIt cX0_onIt 1 ((Option.some Jvm.ClassFile.FieldType.int))) (d2 + 1) [.ref x0] h Q E := by
  refine gh_met (own := RX0) rfl (by decide +kernel) hst (by simp only [lg_sl_i, lg_sl_r, lg_sl_a, lg_sl_2, lg_sl_f, lg_sl_0]; decide) (fun X hXl hXn hret hnm hTb h0 eh C S0 => ?_)
  subst hXl
  have hlm := hCl.2.1
  have hd8 := hCl.2.2.1
  have hd2 : 1 ≤ d2 := Nat.le_trans (by decide) hd8
  have hLa := hCl.2.2.2
  have hd1 : 1 ≤ d2 + 1 := Nat.le_add_left _ _
  have hC9 := hCl
  replace hCl := hCl.1
  have hini : True := trivial
  unfold wb_X0_onIt at hw
  refine GK.sub (lv' := [(0, .ref x0)]) [0] (by simp only [lv_args_i, lv_args_r, lv_args_a, lv_args_l, lv_args_f, lv_args_0]; rfl) ?_
  refine gk_aload_n (pc := 0) C.1 0 dX0_onIt_0 rfl rfl ?_
  obtain ⟨ht, hw⟩ := hw
  refine gf_X0_396 (pc := 1) C ht dX0_onIt_1 ?_
  refine gk_bipush (pc := 4) (v := (-3)) C.1 dX0_onIt_4 (by decide) ?_
  refine gc_X0_9 (pc := 6) (As := [.int (hI h 4 x0), .int (-3)]) (rest := []) C hCl (Nat.le_refl _) hw rfl rfl (Nat.le_of_ble_eq_true rfl) dX0_onIt_6 (fun v9 h_1 hp => ?_) (fun q_2 h_3 hw ht9 => ?_)
  rotate_left
  · exact gx_out C S0 (by rw [hTb]; decide) ht9 hw
  clear hw
  obtain ⟨rfl, hw⟩ := hp
  refine GK.at (p2 := 9) rfl ?_
  refine gk_aload_n (pc := 9) C.1 0 dX0_onIt_9 rfl rfl ?_
  refine gk_aload_n (pc := 10) C.1 0 dX0_onIt_10 rfl rfl ?_
  obtain ⟨ht, hw⟩ := hw
  refine gf_X0_400 (pc := 11) C ht dX0_onIt_11 (fun r_4 er_4 => ?_)
  replace hw := hw r_4 er_4
  obtain ⟨ht, hw⟩ := hw
  refine gfp_X0_66 (pc := 14) (r := r_4) C ht dX0_onIt_14 (fun h_5 eh_5 => ?_)
  replace hw := hw h_5 eh_5
  refine gk_aload_n (pc := 17) C.1 0 dX0_onIt_17 rfl rfl ?_
  refine gk_aload_n (pc := 18) C.1 0 dX0_onIt_18 rfl rfl ?_
  obtain ⟨ht, hw⟩ := hw
  refine gf_X0_403 (pc := 19) C ht dX0_onIt_19 (fun r_6 er_6 => ?_)
  replace hw := hw r_6 er_6
  obtain ⟨ht, hw⟩ := hw
  refine gfp_X0_73 (pc := 22) (r := r_6) C ht dX0_onIt_22 (fun h_7 eh_7 => ?_)
  replace hw := hw h_7 eh_7
  refine gk_aload_n (pc := 25) C.1 0 dX0_onIt_25 rfl rfl ?_
  obtain ⟨ht, hw⟩ := hw
  refine gf_X0_66 (pc := 26) C ht dX0_onIt_26 (fun r_8 er_8 => ?_)
  replace hw := hw r_8 er_8
  obtain ⟨a_9, rfl, hw⟩ := hw
  refine gc_X0_54 (pc := 29) (As := []) (rest := []) C hCl (Nat.le_refl _) hw rfl rfl (Nat.le_of_ble_eq_true rfl) dX0_onIt_29 (fun v9 h_10 hp => ?_) (fun q_12 h_13 hw ht9 => ?_)
  rotate_left
  · exact gx_out C S0 (by rw [hTb]; decide) ht9 hw
  clear hw
  obtain ⟨r_11, rfl, hw⟩ := hp
  refine GK.at (p2 := 32) rfl ?_
  exact gh_iret (pc := 32) C S0 hret dX0_onIt_32 hw
/-! 114: GathersAllFaults.onceLook(LGathersAllFaults$Look;)LGathersAllFaults$Look; -/
def wb_X0_onceLook (cl : CT) (lm : Nat × Nat) (Q : QT) (E : ET) (x0 : Option Nat) (h : HS) : Prop := hZ h + 1 ≤ lm.1 ∧ (hL h + 1 ≤ lm.2 ∧ (∀ (a_1 : Nat) (h_2 : HS), a_1 = hZ h → h_2 = sR (hNew h 208 0 1) 94 (hZ h) x0 → (Q (some (va_rf (some a_1))) h_2)))
theorem wx_X0_onceLook {l : Launch} (hst : l.stackTraces = false) {G : GG} {cl : CT} {lm : Nat × Nat} {Q : QT} {E : ET} {d2 : Nat} (hCl : CallsOK l G d2 cl ∧ hLm G lm ∧ 8 ≤ d2 ∧ LamsOK l G d2 cl) {x0 : Option Nat} {h : HS} (hw : wb_X0_onceLook cl lm Q E x0 h) : HMet l G yX0_onceLook (ws_ yX0_onceLook cX0_onceLook 1 ((Option.some (Jvm.ClassFile.FieldType.object "GathersAllFaults$Look")))) (d2 + 1) [va_rf x0] h Q E := by
  refine gh_met (own := RX0) rfl (by decide +kernel) hst (by simp only [lg_sl_i, lg_sl_r, lg_sl_a, lg_sl_2, lg_sl_f, lg_sl_0]; decide) (fun X hXl hXn hret hnm hTb h0 eh C S0 => ?_)
  subst hXl
  have hlm := hCl.2.1
  have hd8 := hCl.2.2.1
  have hd2 : 1 ≤ d2 := Nat.le_trans (by decide) hd8
  have hLa := hCl.2.2.2
  have hd1 : 1 ≤ d2 + 1 := Nat.le_add_left _ _
  have hC9 := hCl
  replace hCl := hCl.1
  have hini : (ev_s X).methodNamed? yX0_onceLook = some (ev_m X) := hnm.2
  unfold wb_X0_onceLook at hw
  refine GK.sub (lv' := [(0, va_rf x0)]) [0] (by simp only [lv_args_i, lv_args_r, lv_args_a, lv_args_l, lv_args_f, lv_args_0]; rfl) ?_
  refine gk_qload_n (pc := 0) C.1 0 dX0_onceLook_0 rfl rfl ?_
  obtain ⟨hr1, hr2, hw⟩ := hw
  refine gd_8 (r0 := x0) C hini (hlm.1 ▸ hr1) (hlm.2 ▸ hr2) (Nat.le_of_ble_eq_true rfl) dX0_onceLook_1 (fun a_1 h_2 ea_1 eh_2 => ?_)
  replace hw := hw a_1 h_2 ea_1 eh_2
  exact gh_aret (pc := 6) (r := (some a_1)) C S0 hret (Or.inl ⟨_, rfl⟩) dX0_onceLook_6 hw
/-! 115: GathersAllFaults.part(II)I -/
def wb_X0_part (cl : CT) (lm : Nat × Nat) (Q : QT) (E : ET) (x0 : Nat) (x1 : Int32) (x2 : Int32) (h : HS) : Prop := dp_GathersAllFaults_act cl x0 [.int 3, .int x1, .int x2, .int 0] h (gI (fun r_2 h_1 => Q (some (.int r_2)) h_1)) E
theorem wx_X0_part {l : Launch} (hst : l.stackTraces = false) {G : GG} {cl : CT} {lm : Nat × Nat} {Q : QT} {E : ET} {d2 : Nat} (hCl : CallsOK l G d2 cl ∧ hLm G lm ∧ 8 ≤ d2 ∧ LamsOK l G d2 cl) {x0 : Nat} {x1 : Int32} {x2 : Int32} {h : HS} (hw : wb_X0_part cl lm Q E x0 x1 x2 h) : HMet l G yX0_part (ws_ yX0_part cX0_part 3 ((Option.some Jvm.ClassFile.FieldType.int))) (d2 + 1) [.ref x0, .int x1, .int x2] h Q E := by
  refine gh_met (own := RX0) rfl (by decide +kernel) hst (by simp only [lg_sl_i, lg_sl_r, lg_sl_a, lg_sl_2, lg_sl_f, lg_sl_0]; decide) (fun X hXl hXn hret hnm hTb h0 eh C S0 => ?_)
  subst hXl
  have hlm := hCl.2.1
  have hd8 := hCl.2.2.1
  have hd2 : 1 ≤ d2 := Nat.le_trans (by decide) hd8
  have hLa := hCl.2.2.2
  have hd1 : 1 ≤ d2 + 1 := Nat.le_add_left _ _
  have hC9 := hCl
  replace hCl := hCl.1
  have hini : True := trivial
  unfold wb_X0_part at hw
  refine GK.sub (lv' := [(0, .ref x0), (1, .int x1), (2, .int x2)]) [0, 1, 2] (by simp only [lv_args_i, lv_args_r, lv_args_a, lv_args_l, lv_args_f, lv_args_0]; rfl) ?_
  refine gk_aload_n (pc := 0) C.1 0 dX0_part_0 rfl rfl ?_
  refine gk_iconst (pc := 1) (v := 3) C.1 dX0_part_1 (by decide) ?_
  refine gk_iload_n (pc := 2) C.1 1 dX0_part_2 rfl rfl ?_
  refine gk_iload_n (pc := 3) C.1 2 dX0_part_3 rfl rfl ?_
  refine gk_iconst (pc := 4) (v := 0) C.1 dX0_part_4 (by decide) ?_
  refine gc_X0_455 (pc := 5) (As := [.int 3, .int x1, .int x2, .int 0]) (rest := []) C hCl (Nat.le_refl _) hw rfl rfl (Nat.le_of_ble_eq_true rfl) dX0_part_5 (fun v9 h_1 hp => ?_) (fun q_3 h_4 hw ht9 => ?_)
  rotate_left
  · exact gx_out C S0 (by rw [hTb]; decide) ht9 hw
  clear hw
  obtain ⟨r_2, rfl, hw⟩ := hp
  refine GK.at (p2 := 8) rfl ?_
  exact gh_iret (pc := 8) C S0 hret dX0_part_8 hw
/-! 116: GathersAllFaults.partAsked(II)I -/
def wb_X0_partAsked_62 (cl : CT) (lm : Nat × Nat) (Q : QT) (E : ET) : Nat → Int32 → Option Nat → Int32 → HS → Prop
  | 0 => fun _ _ _ _ => False
  | n + 1 => fun x1 x4 x5 h => ∃ a_1 : Nat, x4 = some a_1 ∧ (dp_Row_at cl a_1 [.int x5] h (gR (fun r_3 h_2 => ck_GathersAllFaults_Part h_2 r_3 ∧ (∃ a_6 : Nat, r_3 = some a_6 ∧ ((hT h_2 a_6 = 6) ∧ ((((hI h_2 21 a_6) = x1 → (Q (some (.int x5)) h_2)) ∧ (¬ (hI h_2 21 a_6) = x1 → (∀ x_8 : Int32, x_8 = x5 + 1 → (wb_X0_partAsked_62 cl lm Q E n x1 (some a_1) x_8 h_2))))))))) E)
theorem wk_X0_partAsked_62 {X : Ev} {G : GG} {cl : CT} {lm : Nat × Nat} {Q : QT} {E : ET} {h0 : HS} {d2 : Nat} (C : HC X G RX0 cX0_partAsked (d2 + 1)) (hCl : CallsOK (ev_l X) G d2 cl ∧ hLm G lm ∧ 8 ≤ d2 ∧ LamsOK (ev_l X) G d2 cl) (S0 : HS0 X h0) (hret : (ev_h X).sig.returnType = (Option.some Jvm.ClassFile.FieldType.int)) (hXn : ev_n X = 6) (hini : True) (hTb : (ev_c X).exceptionTable.toList = []) : ∀ (n : Nat) (x1 : Int32) (x4 : Option Nat) (x5 : Int32) (h : HS), wb_X0_partAsked_62 cl lm Q E n x1 x4 x5 h → GH X G h (hQ X G h0 Q E) 62 [(1, .int x1), (4, va_rf x4), (5, .int x5)] [] := by
  have hlm := hCl.2.1
  have hd8 := hCl.2.2.1
  have hd2 : 1 ≤ d2 := Nat.le_trans (by decide) hd8
  have hLa := hCl.2.2.2
  have hd1 : 1 ≤ d2 + 1 := Nat.le_add_left _ _
  have hC9 := hCl
  replace hCl := hCl.1
  intro n
  induction n with
  | zero => intro x1 x4 x5 h hw; exact hw.elim
  | succ n ih =>
  intro x1 x4 x5 h hw
  unfold wb_X0_partAsked_62 at hw
  refine gk_qload (pc := 62) C.1 1 dX0_partAsked_62 rfl ?_
  refine gk_iload (pc := 64) C.1 2 dX0_partAsked_64 rfl ?_
  obtain ⟨a_1, rfl, hw⟩ := hw
  refine gc_X0_152 (pc := 66) (As := [.int x5]) (rest := []) C hCl (Nat.le_refl _) hw rfl rfl (Nat.le_of_ble_eq_true rfl) dX0_partAsked_66 (fun v9 h_2 hp => ?_) (fun q_4 h_5 hw ht9 => ?_)
  rotate_left
  · exact gx_out C S0 (by rw [hTb]; decide) ht9 hw
  clear hw
  obtain ⟨r_3, rfl, hw⟩ := hp
  refine GK.at (p2 := 69) rfl ?_
  obtain ⟨hs, hw⟩ := hw
  refine gh_ckc (pc := 69) (r := r_3) C q1641 (ck_GathersAllFaults_Part_ok hs) dX0_partAsked_69 ?_
  obtain ⟨a_6, rfl, hw⟩ := hw
  obtain ⟨ht, hw⟩ := hw
  refine gf_X0_157 (pc := 72) C ht dX0_partAsked_72 ?_
  refine gk_iload_n (pc := 75) C.1 0 dX0_partAsked_75 rfl rfl ?_
  refine gk_icmp_eq (pc := 76) (tgt := 85) C.1 dX0_partAsked_76 (by decide) (fun c_7 => ?_) (fun c_7 => ?_)
  · replace hw := hw.1 c_7
    refine gk_iload (pc := 85) C.1 2 dX0_partAsked_85 rfl ?_
    exact gh_iret (pc := 87) C S0 hret dX0_partAsked_87 hw
  · replace hw := hw.2 c_7
    obtain ⟨x_8, ex_8⟩ : ∃ z : Int32, z = x5 + 1 := ⟨_, rfl⟩
    replace hw := hw x_8 ex_8
    refine gk_iinc (pc := 79) (v := x_8) (lv' := [(5, Value.int x_8), (1, Value.int x1), (4, Value.ref a_1)]) C.1 2 dX0_partAsked_79 rfl (by rw [ex_8]; rfl) (by rw [hXn]; decide) (by first | rfl | simp [va_rf_S, va_rf_cat, cat_i, cat_a, cat_l, cat_f, fin4_0, fin4_1, fin4_2, fin4_3]) ?_
    refine gk_goto (pc := 82) (tgt := 62) C.1 dX0_partAsked_82 (by decide) ?_
    refine GK.sub (lv' := [(1, .int x1), (4, va_rf (some a_1)), (5, .int x_8)]) [1, 2, 0] rfl ?_
    exact ih _ _ _ _ hw
def wb_X0_partAsked (cl : CT) (lm : Nat × Nat) (Q : QT) (E : ET) (x0 : Nat) (x1 : Int32) (x2 : Int32) (h : HS) : Prop := dp_GathersAllFaults_at cl x0 [.int x1] h (gR (fun r_2 h_1 => cl 78 [.long ((x2 : Int32).toInt64), .long 0, .long 3] h_1 (gI (fun r_6 h_5 => cl 104 [.int r_6, .int (-2)] h_5 (gV (fun h_9 => ((3 ≤ x2 → (dp_GathersAllFaults_parts cl x0 [] h_9 (gR (fun r_14 h_13 => ∃ fu : Nat, wb_X0_partAsked_62 cl lm Q E fu x1 r_14 0 h_13)) E)) ∧ (¬ 3 ≤ x2 → (((¬ x2 = 0 → (((¬ x2 = 1 → (∃ a_19 : Nat, r_2 = some a_19 ∧ (dp_Value_size cl a_19 [] h_9 (gI (fun r_21 h_20 => Q (some (.int r_21)) h_20)) E))) ∧ (x2 = 1 → (∃ a_24 : Nat, r_2 = some a_24 ∧ (dp_Value_many cl a_24 [] h_9 (gI (fun r_26 h_25 => Q (some (.int r_26)) h_25)) E)))))) ∧ (x2 = 0 → (∃ a_29 : Nat, r_2 = some a_29 ∧ (dp_Value_kind cl a_29 [] h_9 (gI (fun r_31 h_30 => Q (some (.int r_31)) h_30)) E))))))))) E)) E)) E
theorem wx_X0_partAsked {l : Launch} (hst : l.stackTraces = false) {G : GG} {cl : CT} {lm : Nat × Nat} {Q : QT} {E : ET} {d2 : Nat} (hCl : CallsOK l G d2 cl ∧ hLm G lm ∧ 8 ≤ d2 ∧ LamsOK l G d2 cl) {x0 : Nat} {x1 : Int32} {x2 : Int32} {h : HS} (hw : wb_X0_partAsked cl lm Q E x0 x1 x2 h) : HMet l G yX0_partAsked (ws_ yX0_partAsked cX0_partAsked 6 ((Option.some Jvm.ClassFile.FieldType.int))) (d2 + 1) [.ref x0, .int x1, .int x2] h Q E := by
  refine gh_met (own := RX0) rfl (by decide +kernel) hst (by simp only [lg_sl_i, lg_sl_r, lg_sl_a, lg_sl_2, lg_sl_f, lg_sl_0]; decide) (fun X hXl hXn hret hnm hTb h0 eh C S0 => ?_)
  subst hXl
  have hlm := hCl.2.1
  have hd8 := hCl.2.2.1
  have hd2 : 1 ≤ d2 := Nat.le_trans (by decide) hd8
  have hLa := hCl.2.2.2
  have hd1 : 1 ≤ d2 + 1 := Nat.le_add_left _ _
  have hC9 := hCl
  replace hCl := hCl.1
  have hini : True := trivial
  unfold wb_X0_partAsked at hw
  refine GK.sub (lv' := [(0, .ref x0), (1, .int x1), (2, .int x2)]) [0, 1, 2] (by simp only [lv_args_i, lv_args_r, lv_args_a, lv_args_l, lv_args_f, lv_args_0]; rfl) ?_
  refine gk_aload_n (pc := 0) C.1 0 dX0_partAsked_0 rfl rfl ?_
  refine gk_iload_n (pc := 1) C.1 1 dX0_partAsked_1 rfl rfl ?_
  refine gc_X0_173 (pc := 2) (As := [.int x1]) (rest := []) C hCl (Nat.le_refl _) hw rfl rfl (Nat.le_of_ble_eq_true rfl) dX0_partAsked_2 (fun v9 h_1 hp => ?_) (fun q_3 h_4 hw ht9 => ?_)
  rotate_left
  · exact gx_out C S0 (by rw [hTb]; decide) ht9 hw
  clear hw
  obtain ⟨r_2, rfl, hw⟩ := hp
  refine GK.at (p2 := 5) rfl ?_
  refine gk_qstore_n (pc := 5) (lv' := [(3, va_rf r_2), (0, Value.ref x0), (1, Value.int x1), (2, Value.int x2)]) C.1 dX0_partAsked_5 rfl (by rw [hXn]; decide) (by first | rfl | simp [va_rf_S, va_rf_cat, cat_i, cat_a, cat_l, cat_f, fin4_0, fin4_1, fin4_2, fin4_3]) ?_
  refine gk_iload_n (pc := 6) C.1 3 dX0_partAsked_6 rfl rfl ?_
  refine gk_i2l (pc := 7) C.1 dX0_partAsked_7 ?_
  refine gk_lconst (pc := 8) (v := 0) C.1 dX0_partAsked_8 (by decide) ?_
  refine gk_ldc2 (pc := 9) (v := 3) C.1 q1642 dX0_partAsked_9 ?_
  refine gc_X0_13 (pc := 12) (As := [.long ((x2 : Int32).toInt64), .long 0, .long 3]) (rest := []) C hCl (Nat.le_refl _) hw rfl rfl (Nat.le_of_ble_eq_true rfl) dX0_partAsked_12 (fun v9 h_5 hp => ?_) (fun q_7 h_8 hw ht9 => ?_)
  rotate_left
  · exact gx_out C S0 (by rw [hTb]; decide) ht9 hw
  clear hw
  obtain ⟨r_6, rfl, hw⟩ := hp
  refine GK.at (p2 := 15) rfl ?_
  refine gk_bipush (pc := 15) (v := (-2)) C.1 dX0_partAsked_15 (by decide) ?_
  refine gc_X0_9 (pc := 17) (As := [.int r_6, .int (-2)]) (rest := []) C hCl (Nat.le_refl _) hw rfl rfl (Nat.le_of_ble_eq_true rfl) dX0_partAsked_17 (fun v9 h_9 hp => ?_) (fun q_10 h_11 hw ht9 => ?_)
  rotate_left
  · exact gx_out C S0 (by rw [hTb]; decide) ht9 hw
  clear hw
  obtain ⟨rfl, hw⟩ := hp
  refine GK.at (p2 := 20) rfl ?_
  refine gk_iload_n (pc := 20) C.1 3 dX0_partAsked_20 rfl rfl ?_
  refine gk_iconst (pc := 21) (v := 3) C.1 dX0_partAsked_21 (by decide) ?_
  refine gk_icmp_ge (pc := 22) (tgt := 53) C.1 dX0_partAsked_22 (by decide) (fun c_12 => ?_) (fun c_12 => ?_)
  · replace hw := hw.1 c_12
    refine gk_aload_n (pc := 53) C.1 1 dX0_partAsked_53 rfl rfl ?_
    refine gc_X0_145 (pc := 54) (As := []) (rest := []) C hCl (Nat.le_refl _) hw rfl rfl (Nat.le_of_ble_eq_true rfl) dX0_partAsked_54 (fun v9 h_13 hp => ?_) (fun q_15 h_16 hw ht9 => ?_)
    rotate_left
    · exact gx_out C S0 (by rw [hTb]; decide) ht9 hw
    clear hw
    obtain ⟨r_14, rfl, hw⟩ := hp
    refine GK.at (p2 := 57) rfl ?_
    refine gk_qstore (pc := 57) (lv' := [(4, va_rf r_14), (3, va_rf r_2), (0, Value.ref x0), (1, Value.int x1), (2, Value.int x2)]) C.1 dX0_partAsked_57 (by rw [hXn]; decide) (by first | rfl | simp [va_rf_S, va_rf_cat, cat_i, cat_a, cat_l, cat_f, fin4_0, fin4_1, fin4_2, fin4_3]) ?_
    refine gk_iconst (pc := 59) (v := 0) C.1 dX0_partAsked_59 (by decide) ?_
    refine gk_istore (pc := 60) (lv' := [(5, Value.int 0), (4, va_rf r_14), (3, va_rf r_2), (0, Value.ref x0), (1, Value.int x1), (2, Value.int x2)]) C.1 dX0_partAsked_60 (by rw [hXn]; decide) (by first | rfl | simp [va_rf_S, va_rf_cat, cat_i, cat_a, cat_l, cat_f, fin4_0, fin4_1, fin4_2, fin4_3]) ?_
    refine GK.sub (lv' := [(1, .int x1), (4, va_rf r_14), (5, .int 0)]) [4, 1, 0] rfl ?_
    obtain ⟨n9, hw⟩ := hw
    exact wk_X0_partAsked_62 C hC9 S0 hret hXn hini hTb  n9 _ _ _ _ hw
  · replace hw := hw.2 c_12
    refine gk_iload_n (pc := 25) C.1 3 dX0_partAsked_25 rfl rfl ?_
    refine gk_if_ne (pc := 26) (tgt := 36) C.1 dX0_partAsked_26 (by decide) (fun c_17 => ?_) (fun c_17 => ?_)
    · replace hw := hw.1 c_17
      refine gk_iload_n (pc := 36) C.1 3 dX0_partAsked_36 rfl rfl ?_
      refine gk_iconst (pc := 37) (v := 1) C.1 dX0_partAsked_37 (by decide) ?_
      refine gk_icmp_ne (pc := 38) (tgt := 48) C.1 dX0_partAsked_38 (by decide) (fun c_18 => ?_) (fun c_18 => ?_)
      · replace hw := hw.1 c_18
        refine gk_qload_n (pc := 48) C.1 0 dX0_partAsked_48 rfl rfl ?_
        obtain ⟨a_19, rfl, hw⟩ := hw
        refine gc_X0_54 (pc := 49) (As := []) (rest := []) C hCl (Nat.le_refl _) hw rfl rfl (Nat.le_of_ble_eq_true rfl) dX0_partAsked_49 (fun v9 h_20 hp => ?_) (fun q_22 h_23 hw ht9 => ?_)
        rotate_left
        · exact gx_out C S0 (by rw [hTb]; decide) ht9 hw
        clear hw
        obtain ⟨r_21, rfl, hw⟩ := hp
        refine GK.at (p2 := 52) rfl ?_
        exact gh_iret (pc := 52) C S0 hret dX0_partAsked_52 hw
      · replace hw := hw.2 c_18
        refine gk_qload_n (pc := 41) C.1 0 dX0_partAsked_41 rfl rfl ?_
        obtain ⟨a_24, rfl, hw⟩ := hw
        refine gc_X0_180 (pc := 42) (As := []) (rest := []) C hCl (Nat.le_refl _) hw rfl rfl (Nat.le_of_ble_eq_true rfl) dX0_partAsked_42 (fun v9 h_25 hp => ?_) (fun q_27 h_28 hw ht9 => ?_)
        rotate_left
        · exact gx_out C S0 (by rw [hTb]; decide) ht9 hw
        clear hw
        obtain ⟨r_26, rfl, hw⟩ := hp
        refine GK.at (p2 := 45) rfl ?_
        refine gk_goto (pc := 45) (tgt := 52) C.1 dX0_partAsked_45 (by decide) ?_
        exact gh_iret (pc := 52) C S0 hret dX0_partAsked_52 hw
    · replace hw := hw.2 c_17
      refine gk_qload_n (pc := 29) C.1 0 dX0_partAsked_29 rfl rfl ?_
      obtain ⟨a_29, rfl, hw⟩ := hw
      refine gc_X0_177 (pc := 30) (As := []) (rest := []) C hCl (Nat.le_refl _) hw rfl rfl (Nat.le_of_ble_eq_true rfl) dX0_partAsked_30 (fun v9 h_30 hp => ?_) (fun q_32 h_33 hw ht9 => ?_)
      rotate_left
      · exact gx_out C S0 (by rw [hTb]; decide) ht9 hw
      clear hw
      obtain ⟨r_31, rfl, hw⟩ := hp
      refine GK.at (p2 := 33) rfl ?_
      refine gk_goto (pc := 33) (tgt := 52) C.1 dX0_partAsked_33 (by decide) ?_
      exact gh_iret (pc := 52) C S0 hret dX0_partAsked_52 hw
/-! 117: GathersAllFaults.partOf(JJI)J -/
def wb_X0_partOf (cl : CT) (lm : Nat × Nat) (Q : QT) (E : ET) (x0 : Int64) (x2 : Int64) (x4 : Int32) (h : HS) : Prop := ((¬ (lg_cmp x0 0) = 0 → (cl 61 [.long x0, .long x2] h (gL (fun r_3 h_2 => ((¬ x4 = 0 → (¬ r_3 = 0 ∧ (Q (some (.long (x2 / r_3))) h_2))) ∧ (x4 = 0 → (¬ r_3 = 0 ∧ (Q (some (.long (x0 / r_3))) h_2)))))) E)) ∧ ((lg_cmp x0 0) = 0 → (Q (some (.long ((x4 : Int32).toInt64))) h)))
theorem wx_X0_partOf {l : Launch} (hst : l.stackTraces = false) {G : GG} {cl : CT} {lm : Nat × Nat} {Q : QT} {E : ET} {d2 : Nat} (hCl : CallsOK l G d2 cl ∧ hLm G lm ∧ 8 ≤ d2 ∧ LamsOK l G d2 cl) {x0 : Int64} {x2 : Int64} {x4 : Int32} {h : HS} (hw : wb_X0_partOf cl lm Q E x0 x2 x4 h) : HMet l G yX0_partOf (ws_ yX0_partOf cX0_partOf 7 ((Option.some Jvm.ClassFile.FieldType.long))) (d2 + 1) [.long x0, .long x2, .int x4] h Q E := by
  refine gh_met (own := RX0) rfl (by decide +kernel) hst (by simp only [lg_sl_i, lg_sl_r, lg_sl_a, lg_sl_2, lg_sl_f, lg_sl_0]; decide) (fun X hXl hXn hret hnm hTb h0 eh C S0 => ?_)
  subst hXl
  have hlm := hCl.2.1
  have hd8 := hCl.2.2.1
  have hd2 : 1 ≤ d2 := Nat.le_trans (by decide) hd8
  have hLa := hCl.2.2.2
  have hd1 : 1 ≤ d2 + 1 := Nat.le_add_left _ _
  have hC9 := hCl
  replace hCl := hCl.1
  have hini : True := trivial
  unfold wb_X0_partOf at hw
  refine GK.sub (lv' := [(0, .long x0), (2, .long x2), (4, .int x4)]) [0, 1, 2] (by simp only [lv_args_i, lv_args_r, lv_args_a, lv_args_l, lv_args_f, lv_args_0]; rfl) ?_
  refine gk_lload_n (pc := 0) C.1 0 dX0_partOf_0 rfl rfl ?_
  refine gk_lconst (pc := 1) (v := 0) C.1 dX0_partOf_1 (by decide) ?_
  refine gk_lcmp (pc := 2) C.1 dX0_partOf_2 ?_
  refine gk_if_ne (pc := 3) (tgt := 10) C.1 dX0_partOf_3 (by decide) (fun c_1 => ?_) (fun c_1 => ?_)
  · replace hw := hw.1 c_1
    refine gk_lload_n (pc := 10) C.1 0 dX0_partOf_10 rfl rfl ?_
    refine gk_lload_n (pc := 11) C.1 1 dX0_partOf_11 rfl rfl ?_
    refine gc_X0_17 (pc := 12) (As := [.long x0, .long x2]) (rest := []) C hCl (Nat.le_refl _) hw rfl rfl (Nat.le_of_ble_eq_true rfl) dX0_partOf_12 (fun v9 h_2 hp => ?_) (fun q_4 h_5 hw ht9 => ?_)
    rotate_left
    · exact gx_out C S0 (by rw [hTb]; decide) ht9 hw
    clear hw
    obtain ⟨r_3, rfl, hw⟩ := hp
    refine GK.at (p2 := 15) rfl ?_
    refine gk_lstore (pc := 15) (lv' := [(5, Value.long r_3), (0, Value.long x0), (2, Value.long x2), (4, Value.int x4)]) C.1 dX0_partOf_15 (by rw [hXn]; decide) (by first | rfl | simp [va_rf_S, va_rf_cat, cat_i, cat_a, cat_l, cat_f, fin4_0, fin4_1, fin4_2, fin4_3]) ?_
    refine gk_iload (pc := 17) C.1 3 dX0_partOf_17 rfl ?_
    refine gk_if_ne (pc := 19) (tgt := 29) C.1 dX0_partOf_19 (by decide) (fun c_6 => ?_) (fun c_6 => ?_)
    · replace hw := hw.1 c_6
      refine gk_lload_n (pc := 29) C.1 2 dX0_partOf_29 rfl rfl ?_
      refine gk_lload (pc := 30) C.1 0 dX0_partOf_30 rfl ?_
      obtain ⟨hne, hw⟩ := hw
      refine gk_ldiv (pc := 32) C.1 dX0_partOf_32 hne ?_
      exact gh_lret (pc := 33) C S0 hret dX0_partOf_33 hw
    · replace hw := hw.2 c_6
      refine gk_lload_n (pc := 22) C.1 1 dX0_partOf_22 rfl rfl ?_
      refine gk_lload (pc := 23) C.1 0 dX0_partOf_23 rfl ?_
      obtain ⟨hne, hw⟩ := hw
      refine gk_ldiv (pc := 25) C.1 dX0_partOf_25 hne ?_
      refine gk_goto (pc := 26) (tgt := 33) C.1 dX0_partOf_26 (by decide) ?_
      exact gh_lret (pc := 33) C S0 hret dX0_partOf_33 hw
  · replace hw := hw.2 c_1
    refine gk_iload (pc := 6) C.1 2 dX0_partOf_6 rfl ?_
    refine gk_i2l (pc := 8) C.1 dX0_partOf_8 ?_
    exact gh_lret (pc := 9) C S0 hret dX0_partOf_9 hw
/-! 118: GathersAllFaults.parts()LGathersAllFaults$Row; -/
def wb_X0_parts (cl : CT) (lm : Nat × Nat) (Q : QT) (E : ET) (x0 : Nat) (h : HS) : Prop := hZ h + 1 ≤ lm.1 ∧ (hL h + 2 ≤ lm.2 ∧ (∀ (a_2 : Nat) (h_1 : HS), a_2 = hZ h → h_1 = hNew h 7 0 2 → (cl 247 (.ref a_2 :: []) h_1 (gV (fun h_3 => (hT h_3 x0 = 1) ∧ (∀ r_6 : Option Nat, r_6 = hR h_3 0 x0 → (∃ a_7 : Nat, r_6 = some a_7 ∧ (dp_Value_layAll cl a_7 [.ref a_2, .int 0] h_3 (gV (fun h_8 => Q (some (va_rf (some a_2))) h_8)) E))))) E)))
theorem wx_X0_parts {l : Launch} (hst : l.stackTraces = false) {G : GG} {cl : CT} {lm : Nat × Nat} {Q : QT} {E : ET} {d2 : Nat} (hCl : CallsOK l G d2 cl ∧ hLm G lm ∧ 8 ≤ d2 ∧ LamsOK l G d2 cl) {x0 : Nat} {h : HS} (hw : wb_X0_parts cl lm Q E x0 h) : HMet l G yX0_parts (ws_ yX0_parts cX0_parts 2 ((Option.some (Jvm.ClassFile.FieldType.object "GathersAllFaults$Row")))) (d2 + 1) [.ref x0] h Q E := by
  refine gh_met (own := RX0) rfl (by decide +kernel) hst (by simp only [lg_sl_i, lg_sl_r, lg_sl_a, lg_sl_2, lg_sl_f, lg_sl_0]; decide) (fun X hXl hXn hret hnm hTb h0 eh C S0 => ?_)
  subst hXl
  have hlm := hCl.2.1
  have hd8 := hCl.2.2.1
  have hd2 : 1 ≤ d2 := Nat.le_trans (by decide) hd8
  have hLa := hCl.2.2.2
  have hd1 : 1 ≤ d2 + 1 := Nat.le_add_left _ _
  have hC9 := hCl
  replace hCl := hCl.1
  have hini : True := trivial
  unfold wb_X0_parts at hw
  refine GK.sub (lv' := [(0, .ref x0)]) [0] (by simp only [lv_args_i, lv_args_r, lv_args_a, lv_args_l, lv_args_f, lv_args_0]; rfl) ?_
  obtain ⟨hr1, hr2, hw⟩ := hw
  refine gn_X0_138 (pc := 0) C (hlm.1 ▸ hr1) (hlm.2 ▸ hr2) dX0_parts_0 (fun h_1 eh_1 => ?_)
  obtain ⟨a_2, ea_2⟩ : ∃ z : Nat, z = hZ h := ⟨_, rfl⟩
  rw [← ea_2]
  replace hw := hw a_2 h_1 ea_2 eh_1
  refine gk_dup (pc := 3) C.1 dX0_parts_3 rfl ?_
  refine gc_X0_140 (pc := 4) (As := []) (rest := [.ref a_2]) C hCl (Nat.le_refl _) hw rfl rfl (Nat.le_of_ble_eq_true rfl) dX0_parts_4 (fun v9 h_3 hp => ?_) (fun q_4 h_5 hw ht9 => ?_)
  rotate_left
  · exact gx_out C S0 (by rw [hTb]; decide) ht9 hw
  clear hw
  obtain ⟨rfl, hw⟩ := hp
  refine GK.at (p2 := 7) rfl ?_
  refine gk_astore_n (pc := 7) (lv' := [(1, Value.ref a_2), (0, Value.ref x0)]) C.1 dX0_parts_7 rfl (by rw [hXn]; decide) (by first | rfl | simp [va_rf_S, va_rf_cat, cat_i, cat_a, cat_l, cat_f, fin4_0, fin4_1, fin4_2, fin4_3]) ?_
  refine gk_aload_n (pc := 8) C.1 1 dX0_parts_8 rfl rfl ?_
  obtain ⟨ht, hw⟩ := hw
  refine gf_X0_66 (pc := 9) C ht dX0_parts_9 (fun r_6 er_6 => ?_)
  replace hw := hw r_6 er_6
  refine gk_aload_n (pc := 12) C.1 0 dX0_parts_12 rfl rfl ?_
  refine gk_iconst (pc := 13) (v := 0) C.1 dX0_parts_13 (by decide) ?_
  obtain ⟨a_7, rfl, hw⟩ := hw
  refine gc_X0_141 (pc := 14) (As := [.ref a_2, .int 0]) (rest := []) C hCl (Nat.le_refl _) hw rfl rfl (Nat.le_of_ble_eq_true rfl) dX0_parts_14 (fun v9 h_8 hp => ?_) (fun q_9 h_10 hw ht9 => ?_)
  rotate_left
  · exact gx_out C S0 (by rw [hTb]; decide) ht9 hw
  clear hw
  obtain ⟨rfl, hw⟩ := hp
  refine GK.at (p2 := 17) rfl ?_
  refine gk_aload_n (pc := 17) C.1 0 dX0_parts_17 rfl rfl ?_
  exact gh_aret (pc := 18) (r := (some a_2)) C S0 hret (Or.inl ⟨_, rfl⟩) dX0_parts_18 hw
/-! 119: GathersAllFaults.path(I)I -/
def wb_X0_path (cl : CT) (lm : Nat × Nat) (Q : QT) (E : ET) (x0 : Nat) (x1 : Int32) (h : HS) : Prop := dp_GathersAllFaults_act cl x0 [.int 4, .int x1, .int 0, .int 0] h (gI (fun r_2 h_1 => Q (some (.int r_2)) h_1)) E
theorem wx_X0_path {l : Launch} (hst : l.stackTraces = false) {G : GG} {cl : CT} {lm : Nat × Nat} {Q : QT} {E : ET} {d2 : Nat} (hCl : CallsOK l G d2 cl ∧ hLm G lm ∧ 8 ≤ d2 ∧ LamsOK l G d2 cl) {x0 : Nat} {x1 : Int32} {h : HS} (hw : wb_X0_path cl lm Q E x0 x1 h) : HMet l G yX0_path (ws_ yX0_path cX0_path 2 ((Option.some Jvm.ClassFile.FieldType.int))) (d2 + 1) [.ref x0, .int x1] h Q E := by
  refine gh_met (own := RX0) rfl (by decide +kernel) hst (by simp only [lg_sl_i, lg_sl_r, lg_sl_a, lg_sl_2, lg_sl_f, lg_sl_0]; decide) (fun X hXl hXn hret hnm hTb h0 eh C S0 => ?_)
  subst hXl
  have hlm := hCl.2.1
  have hd8 := hCl.2.2.1
  have hd2 : 1 ≤ d2 := Nat.le_trans (by decide) hd8
  have hLa := hCl.2.2.2
  have hd1 : 1 ≤ d2 + 1 := Nat.le_add_left _ _
  have hC9 := hCl
  replace hCl := hCl.1
  have hini : True := trivial
  unfold wb_X0_path at hw
  refine GK.sub (lv' := [(0, .ref x0), (1, .int x1)]) [0, 1] (by simp only [lv_args_i, lv_args_r, lv_args_a, lv_args_l, lv_args_f, lv_args_0]; rfl) ?_
  refine gk_aload_n (pc := 0) C.1 0 dX0_path_0 rfl rfl ?_
  refine gk_iconst (pc := 1) (v := 4) C.1 dX0_path_1 (by decide) ?_
  refine gk_iload_n (pc := 2) C.1 1 dX0_path_2 rfl rfl ?_
  refine gk_iconst (pc := 3) (v := 0) C.1 dX0_path_3 (by decide) ?_
  refine gk_iconst (pc := 4) (v := 0) C.1 dX0_path_4 (by decide) ?_
  refine gc_X0_455 (pc := 5) (As := [.int 4, .int x1, .int 0, .int 0]) (rest := []) C hCl (Nat.le_refl _) hw rfl rfl (Nat.le_of_ble_eq_true rfl) dX0_path_5 (fun v9 h_1 hp => ?_) (fun q_3 h_4 hw ht9 => ?_)
  rotate_left
  · exact gx_out C S0 (by rw [hTb]; decide) ht9 hw
  clear hw
  obtain ⟨r_2, rfl, hw⟩ := hp
  refine GK.at (p2 := 8) rfl ?_
  exact gh_iret (pc := 8) C S0 hret dX0_path_8 hw
