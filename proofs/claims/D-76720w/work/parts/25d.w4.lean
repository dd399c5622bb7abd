set_option maxRecDepth 100000
/-! 60: GathersAllFaults.differentOnes()I -/
def wb_X0_differentOnes_15 (cl : CT) (lm : Nat × Nat) (Q : QT) (E : ET) : Nat → Nat → Option Nat → Int32 → HS → Prop
  | 0 => fun _ _ _ _ => False
  | n + 1 => fun x1 x2 x3 h => ∃ a_1 : Nat, x2 = some a_1 ∧ ((hT h a_1 = 7) ∧ ((((hI h 24 a_1) ≤ x3 → (dp_HashSet_size cl x1 [] h (gI (fun r_4 h_3 => Q (some (.int r_4)) h_3)) E)) ∧ (¬ (hI h 24 a_1) ≤ x3 → (dp_Row_at cl a_1 [.int x3] h (gR (fun r_8 h_7 => ck_GathersAllFaults_Part h_7 r_8 ∧ (∃ a_11 : Nat, r_8 = some a_11 ∧ ((hT h_7 a_11 = 6) ∧ (∀ r_12 : Option Nat, r_12 = hR h_7 22 a_11 → (dp_HashSet_add cl x1 [va_rf r_12] h_7 (gI (fun r_14 h_13 => ∀ x_17 : Int32, x_17 = x3 + 1 → (wb_X0_differentOnes_15 cl lm Q E n x1 (some a_1) x_17 h_13))) E)))))) E)))))
theorem wk_X0_differentOnes_15 {X : Ev} {G : GG} {cl : CT} {lm : Nat × Nat} {Q : QT} {E : ET} {h0 : HS} {d2 : Nat} (C : HC X G RX0 cX0_differentOnes (d2 + 1)) (hCl : CallsOK (ev_l X) G d2 cl ∧ hLm G lm ∧ 8 ≤ d2 ∧ LamsOK (ev_l X) G d2 cl) (S0 : HS0 X h0) (hret : (ev_h X).sig.returnType = (Option.some Jvm.ClassFile.FieldType.int)) (hXn : ev_n X = 4) (hini : True) (hTb : (ev_c X).exceptionTable.toList = []) : ∀ (n : Nat) (x1 : Nat) (x2 : Option Nat) (x3 : Int32) (h : HS), wb_X0_differentOnes_15 cl lm Q E n x1 x2 x3 h → GH X G h (hQ X G h0 Q E) 15 [(1, .ref x1), (2, va_rf x2), (3, .int x3)] [] := by
  have hlm := hCl.2.1
  have hd8 := hCl.2.2.1
  have hd2 : 1 ≤ d2 := Nat.le_trans (by decide) hd8
  have hLa := hCl.2.2.2
  have hd1 : 1 ≤ d2 + 1 := Nat.le_add_left _ _
  have hC9 := hCl
  replace hCl := hCl.1
  intro n
  induction n with
  | zero => intro x1 x2 x3 h hw; exact hw.elim
  | succ n ih =>
  intro x1 x2 x3 h hw
  unfold wb_X0_differentOnes_15 at hw
  refine gk_iload_n (pc := 15) C.1 2 dX0_differentOnes_15 rfl rfl ?_
  refine gk_qload_n (pc := 16) C.1 1 dX0_differentOnes_16 rfl rfl ?_
  obtain ⟨a_1, rfl, hw⟩ := hw
  obtain ⟨ht, hw⟩ := hw
  refine gf_X0_149 (pc := 17) C ht dX0_differentOnes_17 ?_
  refine gk_icmp_ge (pc := 20) (tgt := 45) C.1 dX0_differentOnes_20 (by decide) (fun c_2 => ?_) (fun c_2 => ?_)
  · replace hw := hw.1 c_2
    refine gk_aload_n (pc := 45) C.1 0 dX0_differentOnes_45 rfl rfl ?_
    refine gc_X0_262 (pc := 46) (As := []) (rest := []) C hCl (Nat.le_refl _) hw rfl rfl (Nat.le_of_ble_eq_true rfl) dX0_differentOnes_46 (fun v9 h_3 hp => ?_) (fun q_5 h_6 hw ht9 => ?_)
    rotate_left
    · exact gx_out C S0 (by rw [hTb]; decide) ht9 hw
    clear hw
    obtain ⟨r_4, rfl, hw⟩ := hp
    refine GK.at (p2 := 49) rfl ?_
    exact gh_iret (pc := 49) C S0 hret dX0_differentOnes_49 hw
  · replace hw := hw.2 c_2
    refine gk_aload_n (pc := 23) C.1 0 dX0_differentOnes_23 rfl rfl ?_
    refine gk_aload_n (pc := 24) C.1 1 dX0_differentOnes_24 rfl rfl ?_
    refine gk_iload_n (pc := 25) C.1 2 dX0_differentOnes_25 rfl rfl ?_
    refine gc_X0_152 (pc := 26) (As := [.int x3]) (rest := [.ref x1]) C hCl (Nat.le_refl _) hw rfl rfl (Nat.le_of_ble_eq_true rfl) dX0_differentOnes_26 (fun v9 h_7 hp => ?_) (fun q_9 h_10 hw ht9 => ?_)
    rotate_left
    · exact gx_out C S0 (by rw [hTb]; decide) ht9 hw
    clear hw
    obtain ⟨r_8, rfl, hw⟩ := hp
    refine GK.at (p2 := 29) rfl ?_
    obtain ⟨hs, hw⟩ := hw
    refine gh_ckc (pc := 29) (r := r_8) C q1641 (ck_GathersAllFaults_Part_ok hs) dX0_differentOnes_29 ?_
    obtain ⟨a_11, rfl, hw⟩ := hw
    obtain ⟨ht, hw⟩ := hw
    refine gf_X0_160 (pc := 32) C ht dX0_differentOnes_32 (fun r_12 er_12 => ?_)
    replace hw := hw r_12 er_12
    refine gc_X0_258 (pc := 35) (As := [va_rf r_12]) (rest := []) C hCl (Nat.le_refl _) hw rfl rfl (Nat.le_of_ble_eq_true rfl) dX0_differentOnes_35 (fun v9 h_13 hp => ?_) (fun q_15 h_16 hw ht9 => ?_)
    rotate_left
    · exact gx_out C S0 (by rw [hTb]; decide) ht9 hw
    clear hw
    obtain ⟨r_14, rfl, hw⟩ := hp
    refine GK.at (p2 := 38) rfl ?_
    refine gk_pop (pc := 38) C.1 dX0_differentOnes_38 rfl ?_
    obtain ⟨x_17, ex_17⟩ : ∃ z : Int32, z = x3 + 1 := ⟨_, rfl⟩
    replace hw := hw x_17 ex_17
    refine gk_iinc (pc := 39) (v := x_17) (lv' := [(3, Value.int x_17), (1, Value.ref x1), (2, Value.ref a_1)]) C.1 2 dX0_differentOnes_39 rfl (by rw [ex_17]; rfl) (by rw [hXn]; decide) (by first | rfl | simp [va_rf_S, va_rf_cat, cat_i, cat_a, cat_l, cat_f, fin4_0, fin4_1, fin4_2, fin4_3]) ?_
    refine gk_goto (pc := 42) (tgt := 15) C.1 dX0_differentOnes_42 (by decide) ?_
    refine GK.sub (lv' := [(1, .ref x1), (2, va_rf (some a_1)), (3, .int x_17)]) [1, 2, 0] rfl ?_
    exact ih _ _ _ _ hw
def wb_X0_differentOnes (cl : CT) (lm : Nat × Nat) (Q : QT) (E : ET) (x0 : Nat) (h : HS) : Prop := hZ h + 1 ≤ lm.1 ∧ (hL h + 1 ≤ lm.2 ∧ (∀ (a_2 : Nat) (h_1 : HS), a_2 = hZ h → h_1 = hNew h 25 0 1 → (cl 44 (.ref a_2 :: []) h_1 (gV (fun h_3 => dp_GathersAllFaults_parts cl x0 [] h_3 (gR (fun r_7 h_6 => ∃ fu : Nat, wb_X0_differentOnes_15 cl lm Q E fu a_2 r_7 0 h_6)) E)) E)))
theorem wx_X0_differentOnes {l : Launch} (hst : l.stackTraces = false) {G : GG} {cl : CT} {lm : Nat × Nat} {Q : QT} {E : ET} {d2 : Nat} (hCl : CallsOK l G d2 cl ∧ hLm G lm ∧ 8 ≤ d2 ∧ LamsOK l G d2 cl) {x0 : Nat} {h : HS} (hw : wb_X0_differentOnes cl lm Q E x0 h) : HMet l G yX0_differentOnes (ws_ yX0_differentOnes cX0_differentOnes 4 ((Option.some Jvm.ClassFile.FieldType.int))) (d2 + 1) [.ref x0] h Q E := by
  refine gh_met (own := RX0) rfl (by decide +kernel) hst (by simp only [lg_sl_i, lg_sl_r, lg_sl_a, lg_sl_2, lg_sl_f, lg_sl_0]; decide) (fun X hXl hXn hret hnm hTb h0 eh C S0 => ?_)
  subst hXl
  have hlm := hCl.2.1
  have hd8 := hCl.2.2.1
  have hd2 : 1 ≤ d2 := Nat.le_trans (by decide) hd8
  have hLa := hCl.2.2.2
  have hd1 : 1 ≤ d2 + 1 := Nat.le_add_left _ _
  have hC9 := hCl
  replace hCl := hCl.1
  have hini : True := trivial
  unfold wb_X0_differentOnes at hw
  refine GK.sub (lv' := [(0, .ref x0)]) [0] (by simp only [lv_args_i, lv_args_r, lv_args_a, lv_args_l, lv_args_f, lv_args_0]; rfl) ?_
  obtain ⟨hr1, hr2, hw⟩ := hw
  refine gn_X0_255 (pc := 0) C (hlm.1 ▸ hr1) (hlm.2 ▸ hr2) dX0_differentOnes_0 (fun h_1 eh_1 => ?_)
  obtain ⟨a_2, ea_2⟩ : ∃ z : Nat, z = hZ h := ⟨_, rfl⟩
  rw [← ea_2]
  replace hw := hw a_2 h_1 ea_2 eh_1
  refine gk_dup (pc := 3) C.1 dX0_differentOnes_3 rfl ?_
  refine gc_X0_257 (pc := 4) (As := []) (rest := [.ref a_2]) C hCl (Nat.le_refl _) hw rfl rfl (Nat.le_of_ble_eq_true rfl) dX0_differentOnes_4 (fun v9 h_3 hp => ?_) (fun q_4 h_5 hw ht9 => ?_)
  rotate_left
  · exact gx_out C S0 (by rw [hTb]; decide) ht9 hw
  clear hw
  obtain ⟨rfl, hw⟩ := hp
  refine GK.at (p2 := 7) rfl ?_
  refine gk_astore_n (pc := 7) (lv' := [(1, Value.ref a_2), (0, Value.ref x0)]) C.1 dX0_differentOnes_7 rfl (by rw [hXn]; decide) (by first | rfl | simp [va_rf_S, va_rf_cat, cat_i, cat_a, cat_l, cat_f, fin4_0, fin4_1, fin4_2, fin4_3]) ?_
  refine gk_aload_n (pc := 8) C.1 1 dX0_differentOnes_8 rfl rfl ?_
  refine gc_X0_145 (pc := 9) (As := []) (rest := []) C hCl (Nat.le_refl _) hw rfl rfl (Nat.le_of_ble_eq_true rfl) dX0_differentOnes_9 (fun v9 h_6 hp => ?_) (fun q_8 h_9 hw ht9 => ?_)
  rotate_left
  · exact gx_out C S0 (by rw [hTb]; decide) ht9 hw
  clear hw
  obtain ⟨r_7, rfl, hw⟩ := hp
  refine GK.at (p2 := 12) rfl ?_
  refine gk_qstore_n (pc := 12) (lv' := [(2, va_rf r_7), (1, Value.ref a_2), (0, Value.ref x0)]) C.1 dX0_differentOnes_12 rfl (by rw [hXn]; decide) (by first | rfl | simp [va_rf_S, va_rf_cat, cat_i, cat_a, cat_l, cat_f, fin4_0, fin4_1, fin4_2, fin4_3]) ?_
  refine gk_iconst (pc := 13) (v := 0) C.1 dX0_differentOnes_13 (by decide) ?_
  refine gk_istore_n (pc := 14) (lv' := [(3, Value.int 0), (2, va_rf r_7), (1, Value.ref a_2), (0, Value.ref x0)]) C.1 dX0_differentOnes_14 rfl (by rw [hXn]; decide) (by first | rfl | simp [va_rf_S, va_rf_cat, cat_i, cat_a, cat_l, cat_f, fin4_0, fin4_1, fin4_2, fin4_3]) ?_
  refine GK.sub (lv' := [(1, .ref a_2), (2, va_rf r_7), (3, .int 0)]) [2, 1, 0] rfl ?_
  obtain ⟨n9, hw⟩ := hw
  exact wk_X0_differentOnes_15 C hC9 S0 hret hXn hini hTb  n9 _ _ _ _ hw
/-! 61: GathersAllFaults.divisor(JJ)J -/
def wb_X0_divisor (cl : CT) (lm : Nat × Nat) (Q : QT) (E : ET) (x0 : Int64) (x2 : Int64) (h : HS) : Prop := ((¬ (lg_cmp x2 0) = 0 → (¬ x2 = 0 ∧ (cl 61 [.long x2, .long (x0 - x0 / x2 * x2)] h (gL (fun r_3 h_2 => Q (some (.long r_3)) h_2)) E))) ∧ ((lg_cmp x2 0) = 0 → (Q (some (.long x0)) h)))
theorem wx_X0_divisor {l : Launch} (hst : l.stackTraces = false) {G : GG} {cl : CT} {lm : Nat × Nat} {Q : QT} {E : ET} {d2 : Nat} (hCl : CallsOK l G d2 cl ∧ hLm G lm ∧ 8 ≤ d2 ∧ LamsOK l G d2 cl) {x0 : Int64} {x2 : Int64} {h : HS} (hw : wb_X0_divisor cl lm Q E x0 x2 h) : HMet l G yX0_divisor (ws_ yX0_divisor cX0_divisor 4 ((Option.some Jvm.ClassFile.FieldType.long))) (d2 + 1) [.long x0, .long x2] h Q E := by
  refine gh_met (own := RX0) rfl (by decide +kernel) hst (by simp only [lg_sl_i, lg_sl_r, lg_sl_a, lg_sl_2, lg_sl_f, lg_sl_0]; decide) (fun X hXl hXn hret hnm hTb h0 eh C S0 => ?_)
  subst hXl
  have hlm := hCl.2.1
  have hd8 := hCl.2.2.1
  have hd2 : 1 ≤ d2 := Nat.le_trans (by decide) hd8
  have hLa := hCl.2.2.2
  have hd1 : 1 ≤ d2 + 1 := Nat.le_add_left _ _
  have hC9 := hCl
  replace hCl := hCl.1
  have hini : True := trivial
  unfold wb_X0_divisor at hw
  refine GK.sub (lv' := [(0, .long x0), (2, .long x2)]) [0, 1] (by simp only [lv_args_i, lv_args_r, lv_args_a, lv_args_l, lv_args_f, lv_args_0]; rfl) ?_
  refine gk_lload_n (pc := 0) C.1 1 dX0_divisor_0 rfl rfl ?_
  refine gk_lconst (pc := 1) (v := 0) C.1 dX0_divisor_1 (by decide) ?_
  refine gk_lcmp (pc := 2) C.1 dX0_divisor_2 ?_
  refine gk_if_ne (pc := 3) (tgt := 10) C.1 dX0_divisor_3 (by decide) (fun c_1 => ?_) (fun c_1 => ?_)
  · replace hw := hw.1 c_1
    refine gk_lload_n (pc := 10) C.1 1 dX0_divisor_10 rfl rfl ?_
    refine gk_lload_n (pc := 11) C.1 0 dX0_divisor_11 rfl rfl ?_
    refine gk_lload_n (pc := 12) C.1 1 dX0_divisor_12 rfl rfl ?_
    obtain ⟨hne, hw⟩ := hw
    refine gk_lrem (pc := 13) C.1 dX0_divisor_13 hne ?_
    refine gc_X0_17 (pc := 14) (As := [.long x2, .long (x0 - x0 / x2 * x2)]) (rest := []) C hCl (Nat.le_refl _) hw rfl rfl (Nat.le_of_ble_eq_true rfl) dX0_divisor_14 (fun v9 h_2 hp => ?_) (fun q_4 h_5 hw ht9 => ?_)
    rotate_left
    · exact gx_out C S0 (by rw [hTb]; decide) ht9 hw
    clear hw
    obtain ⟨r_3, rfl, hw⟩ := hp
    refine GK.at (p2 := 17) rfl ?_
    exact gh_lret (pc := 17) C S0 hret dX0_divisor_17 hw
  · replace hw := hw.2 c_1
    refine gk_lload_n (pc := 6) C.1 0 dX0_divisor_6 rfl rfl ?_
    refine gk_goto (pc := 7) (tgt := 17) C.1 dX0_divisor_7 (by decide) ?_
    exact gh_lret (pc := 17) C S0 hret dX0_divisor_17 hw
/-! 62: GathersAllFaults.drawn(I)I -/
def wb_X0_drawn (cl : CT) (lm : Nat × Nat) (Q : QT) (E : ET) (x0 : Nat) (x1 : Int32) (h : HS) : Prop := (hT h x0 = 1) ∧ ((hT h x0 = 1) ∧ (∀ h_1 : HS, h_1 = sI h 12 x0 (((hI h 12 x0) * 1664525) + 1013904223) → ((hT h_1 x0 = 1) ∧ (¬ x1 = 0 ∧ (Q (some (.int ((((hI h_1 12 x0) &&& 2147483647) / 256) - (((hI h_1 12 x0) &&& 2147483647) / 256) / x1 * x1))) h_1)))))
theorem wx_X0_drawn {l : Launch} (hst : l.stackTraces = false) {G : GG} {cl : CT} {lm : Nat × Nat} {Q : QT} {E : ET} {d2 : Nat} (hCl : CallsOK l G d2 cl ∧ hLm G lm ∧ 8 ≤ d2 ∧ LamsOK l G d2 cl) {x0 : Nat} {x1 : Int32} {h : HS} (hw : wb_X0_drawn cl lm Q E x0 x1 h) : HMet l G yX0_drawn (ws_ yX0_drawn cX0_drawn 2 ((Option.some Jvm.ClassFile.FieldType.int))) (d2 + 1) [.ref x0, .int x1] h Q E := by
  refine gh_met (own := RX0) rfl (by decide +kernel) hst (by simp only [lg_sl_i, lg_sl_r, lg_sl_a, lg_sl_2, lg_sl_f, lg_sl_0]; decide) (fun X hXl hXn hret hnm hTb h0 eh C S0 => ?_)
  subst hXl
  have hlm := hCl.2.1
  have hd8 := hCl.2.2.1
  have hd2 : 1 ≤ d2 := Nat.le_trans (by decide) hd8
  have hLa := hCl.2.2.2
  have hd1 : 1 ≤ d2 + 1 := Nat.le_add_left _ _
  have hC9 := hCl
  replace hCl := hCl.1
  have hini : True := trivial
  unfold wb_X0_drawn at hw
  refine GK.sub (lv' := [(0, .ref x0), (1, .int x1)]) [0, 1] (by simp only [lv_args_i, lv_args_r, lv_args_a, lv_args_l, lv_args_f, lv_args_0]; rfl) ?_
  refine gk_aload_n (pc := 0) C.1 0 dX0_drawn_0 rfl rfl ?_
  refine gk_aload_n (pc := 1) C.1 0 dX0_drawn_1 rfl rfl ?_
  obtain ⟨ht, hw⟩ := hw
  refine gf_X0_308 (pc := 2) C ht dX0_drawn_2 ?_
  refine gk_ldcw (pc := 5) (v := 1664525) C.1 q1913 dX0_drawn_5 ?_
  refine gk_imul (pc := 8) C.1 dX0_drawn_8 ?_
  refine gk_ldcw (pc := 9) (v := 1013904223) C.1 q1914 dX0_drawn_9 ?_
  refine gk_iadd (pc := 12) C.1 dX0_drawn_12 ?_
  obtain ⟨ht, hw⟩ := hw
  refine gfp_X0_308 (pc := 13) C ht dX0_drawn_13 (fun h_1 eh_1 => ?_)
  replace hw := hw h_1 eh_1
  refine gk_aload_n (pc := 16) C.1 0 dX0_drawn_16 rfl rfl ?_
  obtain ⟨ht, hw⟩ := hw
  refine gf_X0_308 (pc := 17) C ht dX0_drawn_17 ?_
  refine gk_ldcw (pc := 20) (v := 2147483647) C.1 q1915 dX0_drawn_20 ?_
  refine gk_iand (pc := 23) C.1 dX0_drawn_23 ?_
  refine gk_sipush (pc := 24) (v := 256) C.1 dX0_drawn_24 (by decide) ?_
  refine gk_idiv (pc := 27) C.1 dX0_drawn_27 (by decide) ?_
  refine gk_iload_n (pc := 28) C.1 1 dX0_drawn_28 rfl rfl ?_
  obtain ⟨hne, hw⟩ := hw
  refine gk_irem (pc := 29) C.1 dX0_drawn_29 hne ?_
  exact gh_iret (pc := 30) C S0 hret dX0_drawn_30 hw
/-! 63: GathersAllFaults.drops(I)I -/
def wb_X0_drops (cl : CT) (lm : Nat × Nat) (Q : QT) (E : ET) (x0 : Nat) (x1 : Int32) (h : HS) : Prop := dp_GathersAllFaults_act cl x0 [.int 6, .int x1, .int 0, .int 0] h (gI (fun r_2 h_1 => Q (some (.int r_2)) h_1)) E
theorem wx_X0_drops {l : Launch} (hst : l.stackTraces = false) {G : GG} {cl : CT} {lm : Nat × Nat} {Q : QT} {E : ET} {d2 : Nat} (hCl : CallsOK l G d2 cl ∧ hLm G lm ∧ 8 ≤ d2 ∧ LamsOK l G d2 cl) {x0 : Nat} {x1 : Int32} {h : HS} (hw : wb_X0_drops cl lm Q E x0 x1 h) : HMet l G yX0_drops (ws_ yX0_drops cX0_drops 2 ((Option.some Jvm.ClassFile.FieldType.int))) (d2 + 1) [.ref x0, .int x1] h Q E := by
  refine gh_met (own := RX0) rfl (by decide +kernel) hst (by simp only [lg_sl_i, lg_sl_r, lg_sl_a, lg_sl_2, lg_sl_f, lg_sl_0]; decide) (fun X hXl hXn hret hnm hTb h0 eh C S0 => ?_)
  subst hXl
  have hlm := hCl.2.1
  have hd8 := hCl.2.2.1
  have hd2 : 1 ≤ d2 := Nat.le_trans (by decide) hd8
  have hLa := hCl.2.2.2
  have hd1 : 1 ≤ d2 + 1 := Nat.le_add_left _ _
  have hC9 := hCl
  replace hCl := hCl.1
  have hini : True := trivial
  unfold wb_X0_drops at hw
  refine GK.sub (lv' := [(0, .ref x0), (1, .int x1)]) [0, 1] (by simp only [lv_args_i, lv_args_r, lv_args_a, lv_args_l, lv_args_f, lv_args_0]; rfl) ?_
  refine gk_aload_n (pc := 0) C.1 0 dX0_drops_0 rfl rfl ?_
  refine gk_bipush (pc := 1) (v := 6) C.1 dX0_drops_1 (by decide) ?_
  refine gk_iload_n (pc := 3) C.1 1 dX0_drops_3 rfl rfl ?_
  refine gk_iconst (pc := 4) (v := 0) C.1 dX0_drops_4 (by decide) ?_
  refine gk_iconst (pc := 5) (v := 0) C.1 dX0_drops_5 (by decide) ?_
  refine gc_X0_455 (pc := 6) (As := [.int 6, .int x1, .int 0, .int 0]) (rest := []) C hCl (Nat.le_refl _) hw rfl rfl (Nat.le_of_ble_eq_true rfl) dX0_drops_6 (fun v9 h_1 hp => ?_) (fun q_3 h_4 hw ht9 => ?_)
  rotate_left
  · exact gx_out C S0 (by rw [hTb]; decide) ht9 hw
  clear hw
  obtain ⟨r_2, rfl, hw⟩ := hp
  refine GK.at (p2 := 9) rfl ?_
  exact gh_iret (pc := 9) C S0 hret dX0_drops_9 hw
/-! 64: GathersAllFaults.eitherLook(LGathersAllFaults$Look;LGathersAllFaults$Look;)LGathersAllFaults$Look; -/
def wb_X0_eitherLook (cl : CT) (lm : Nat × Nat) (Q : QT) (E : ET) (x0 : Option Nat) (x1 : Option Nat) (h : HS) : Prop := hZ h + 1 ≤ lm.1 ∧ (hL h + 2 ≤ lm.2 ∧ (∀ (a_1 : Nat) (h_2 : HS), a_1 = hZ h → h_2 = sR (sR (hNew h 209 0 2) 95 (hZ h) x0) 96 (hZ h) x1 → (Q (some (va_rf (some a_1))) h_2)))
theorem wx_X0_eitherLook {l : Launch} (hst : l.stackTraces = false) {G : GG} {cl : CT} {lm : Nat × Nat} {Q : QT} {E : ET} {d2 : Nat} (hCl : CallsOK l G d2 cl ∧ hLm G lm ∧ 8 ≤ d2 ∧ LamsOK l G d2 cl) {x0 : Option Nat} {x1 : Option Nat} {h : HS} (hw : wb_X0_eitherLook cl lm Q E x0 x1 h) : HMet l G yX0_eitherLook (ws_ yX0_eitherLook cX0_eitherLook 2 ((Option.some (Jvm.ClassFile.FieldType.object "GathersAllFaults$Look")))) (d2 + 1) [va_rf x0, va_rf x1] h Q E := by
  refine gh_met (own := RX0) rfl (by decide +kernel) hst (by simp only [lg_sl_i, lg_sl_r, lg_sl_a, lg_sl_2, lg_sl_f, lg_sl_0]; decide) (fun X hXl hXn hret hnm hTb h0 eh C S0 => ?_)
  subst hXl
  have hlm := hCl.2.1
  have hd8 := hCl.2.2.1
  have hd2 : 1 ≤ d2 := Nat.le_trans (by decide) hd8
  have hLa := hCl.2.2.2
  have hd1 : 1 ≤ d2 + 1 := Nat.le_add_left _ _
  have hC9 := hCl
  replace hCl := hCl.1
  have hini : (ev_s X).methodNamed? yX0_eitherLook = some (ev_m X) := hnm.2
  unfold wb_X0_eitherLook at hw
  refine GK.sub (lv' := [(0, va_rf x0), (1, va_rf x1)]) [0, 1] (by simp only [lv_args_i, lv_args_r, lv_args_a, lv_args_l, lv_args_f, lv_args_0]; rfl) ?_
  refine gk_qload_n (pc := 0) C.1 0 dX0_eitherLook_0 rfl rfl ?_
  refine gk_qload_n (pc := 1) C.1 1 dX0_eitherLook_1 rfl rfl ?_
  obtain ⟨hr1, hr2, hw⟩ := hw
  refine gd_9 (r0 := x0) (r1 := x1) C hini (hlm.1 ▸ hr1) (hlm.2 ▸ hr2) (Nat.le_of_ble_eq_true rfl) dX0_eitherLook_2 (fun a_1 h_2 ea_1 eh_2 => ?_)
  replace hw := hw a_1 h_2 ea_1 eh_2
  exact gh_aret (pc := 7) (r := (some a_1)) C S0 hret (Or.inl ⟨_, rfl⟩) dX0_eitherLook_7 hw
/-! 65: GathersAllFaults.far(LGathersAllFaults$Refusal;)J -/
def wb_X0_far (cl : CT) (lm : Nat × Nat) (Q : QT) (E : ET) (x0 : Nat) (x1 : Option Nat) (h : HS) : Prop := ∃ a_1 : Nat, x1 = some a_1 ∧ (dp_Refusal_number cl a_1 [] h (gI (fun r_3 h_2 => dp_GathersAllFaults_refuse cl x0 [.int r_3] h_2 (gI (fun r_7 h_6 => Q (some (.long (4000000000000000000 - ((r_7 : Int32).toInt64)))) h_6)) E)) E)
theorem wx_X0_far {l : Launch} (hst : l.stackTraces = false) {G : GG} {cl : CT} {lm : Nat × Nat} {Q : QT} {E : ET} {d2 : Nat} (hCl : CallsOK l G d2 cl ∧ hLm G lm ∧ 8 ≤ d2 ∧ LamsOK l G d2 cl) {x0 : Nat} {x1 : Option Nat} {h : HS} (hw : wb_X0_far cl lm Q E x0 x1 h) : HMet l G yX0_far (ws_ yX0_far cX0_far 2 ((Option.some Jvm.ClassFile.FieldType.long))) (d2 + 1) [.ref x0, va_rf x1] h Q E := by
  refine gh_met (own := RX0) rfl (by decide +kernel) hst (by simp only [lg_sl_i, lg_sl_r, lg_sl_a, lg_sl_2, lg_sl_f, lg_sl_0]; decide) (fun X hXl hXn hret hnm hTb h0 eh C S0 => ?_)
  subst hXl
  have hlm := hCl.2.1
  have hd8 := hCl.2.2.1
  have hd2 : 1 ≤ d2 := Nat.le_trans (by decide) hd8
  have hLa := hCl.2.2.2
  have hd1 : 1 ≤ d2 + 1 := Nat.le_add_left _ _
  have hC9 := hCl
  replace hCl := hCl.1
  have hini : True := trivial
  unfold wb_X0_far at hw
  refine GK.sub (lv' := [(0, .ref x0), (1, va_rf x1)]) [0, 1] (by simp only [lv_args_i, lv_args_r, lv_args_a, lv_args_l, lv_args_f, lv_args_0]; rfl) ?_
  refine gk_ldc2 (pc := 0) (v := 4000000000000000000) C.1 q2049 dX0_far_0 ?_
  refine gk_aload_n (pc := 3) C.1 0 dX0_far_3 rfl rfl ?_
  refine gk_qload_n (pc := 4) C.1 1 dX0_far_4 rfl rfl ?_
  obtain ⟨a_1, rfl, hw⟩ := hw
  refine gc_X0_344 (pc := 5) (As := []) (rest := [.ref x0, .long 4000000000000000000]) C hCl (Nat.le_refl _) hw rfl rfl (Nat.le_of_ble_eq_true rfl) dX0_far_5 (fun v9 h_2 hp => ?_) (fun q_4 h_5 hw ht9 => ?_)
  rotate_left
  · exact gx_out C S0 (by rw [hTb]; decide) ht9 hw
  clear hw
  obtain ⟨r_3, rfl, hw⟩ := hp
  refine GK.at (p2 := 8) rfl ?_
  refine gc_X0_347 (pc := 8) (As := [.int r_3]) (rest := [.long 4000000000000000000]) C hCl (Nat.le_refl _) hw rfl rfl (Nat.le_of_ble_eq_true rfl) dX0_far_8 (fun v9 h_6 hp => ?_) (fun q_8 h_9 hw ht9 => ?_)
  rotate_left
  · exact gx_out C S0 (by rw [hTb]; decide) ht9 hw
  clear hw
  obtain ⟨r_7, rfl, hw⟩ := hp
  refine GK.at (p2 := 11) rfl ?_
  refine gk_i2l (pc := 11) C.1 dX0_far_11 ?_
  refine gk_lsub (pc := 12) C.1 dX0_far_12 ?_
  exact gh_lret (pc := 13) C S0 hret dX0_far_13 hw
/-! 66: GathersAllFaults.fault(II)I -/
def wb_X0_fault (cl : CT) (lm : Nat × Nat) (Q : QT) (E : ET) (x0 : Nat) (x1 : Int32) (x2 : Int32) (h : HS) : Prop := dp_GathersAllFaults_act cl x0 [.int 8, .int x1, .int x2, .int 0] h (gI (fun r_2 h_1 => Q (some (.int r_2)) h_1)) E
theorem wx_X0_fault {l : Launch} (hst : l.stackTraces = false) {G : GG} {cl : CT} {lm : Nat × Nat} {Q : QT} {E : ET} {d2 : Nat} (hCl : CallsOK l G d2 cl ∧ hLm G lm ∧ 8 ≤ d2 ∧ LamsOK l G d2 cl) {x0 : Nat} {x1 : Int32} {x2 : Int32} {h : HS} (hw : wb_X0_fault cl lm Q E x0 x1 x2 h) : HMet l G yX0_fault (ws_ yX0_fault cX0_fault 3 ((Option.some Jvm.ClassFile.FieldType.int))) (d2 + 1) [.ref x0, .int x1, .int x2] h Q E := by
  refine gh_met (own := RX0) rfl (by decide +kernel) hst (by simp only [lg_sl_i, lg_sl_r, lg_sl_a, lg_sl_2, lg_sl_f, lg_sl_0]; decide) (fun X hXl hXn hret hnm hTb h0 eh C S0 => ?_)
  subst hXl
  have hlm := hCl.2.1
  have hd8 := hCl.2.2.1
  have hd2 : 1 ≤ d2 := Nat.le_trans (by decide) hd8
  have hLa := hCl.2.2.2
  have hd1 : 1 ≤ d2 + 1 := Nat.le_add_left _ _
  have hC9 := hCl
  replace hCl := hCl.1
  have hini : True := trivial
  unfold wb_X0_fault at hw
  refine GK.sub (lv' := [(0, .ref x0), (1, .int x1), (2, .int x2)]) [0, 1, 2] (by simp only [lv_args_i, lv_args_r, lv_args_a, lv_args_l, lv_args_f, lv_args_0]; rfl) ?_
  refine gk_aload_n (pc := 0) C.1 0 dX0_fault_0 rfl rfl ?_
  refine gk_bipush (pc := 1) (v := 8) C.1 dX0_fault_1 (by decide) ?_
  refine gk_iload_n (pc := 3) C.1 1 dX0_fault_3 rfl rfl ?_
  refine gk_iload_n (pc := 4) C.1 2 dX0_fault_4 rfl rfl ?_
  refine gk_iconst (pc := 5) (v := 0) C.1 dX0_fault_5 (by decide) ?_
  refine gc_X0_455 (pc := 6) (As := [.int 8, .int x1, .int x2, .int 0]) (rest := []) C hCl (Nat.le_refl _) hw rfl rfl (Nat.le_of_ble_eq_true rfl) dX0_fault_6 (fun v9 h_1 hp => ?_) (fun q_3 h_4 hw ht9 => ?_)
  rotate_left
  · exact gx_out C S0 (by rw [hTb]; decide) ht9 hw
  clear hw
  obtain ⟨r_2, rfl, hw⟩ := hp
  refine GK.at (p2 := 9) rfl ?_
  exact gh_iret (pc := 9) C S0 hret dX0_fault_9 hw
/-! 67: GathersAllFaults.faultTold(II)I -/
def wb_X0_faultTold (cl : CT) (lm : Nat × Nat) (Q : QT) (E : ET) (x0 : Nat) (x1 : Int32) (x2 : Int32) (h : HS) : Prop := cl 105 [.int x2] h (gV (fun h_1 => dp_GathersAllFaults_found cl x0 [] h_1 (gR (fun r_5 h_4 => ∃ a_8 : Nat, r_5 = some a_8 ∧ ((hT h_4 a_8 = 9) ∧ (∀ r_9 : Option Nat, r_9 = hR h_4 28 a_8 → (∃ a_10 : Nat, r_9 = some a_10 ∧ (dp_Row_at cl a_10 [.int x1] h_4 (gR (fun r_12 h_11 => ck_GathersAllFaults_Found h_11 r_12 ∧ (((¬ x2 = 0 → (∃ a_16 : Nat, r_12 = some a_16 ∧ ((hT h_11 a_16 = 8) ∧ (Q (some (.int (hI h_11 26 a_16))) h_11)))) ∧ (x2 = 0 → (∃ a_17 : Nat, r_12 = some a_17 ∧ ((hT h_11 a_17 = 8) ∧ (Q (some (.int (hI h_11 25 a_17))) h_11)))))))) E)))))) E)) E
theorem wx_X0_faultTold {l : Launch} (hst : l.stackTraces = false) {G : GG} {cl : CT} {lm : Nat × Nat} {Q : QT} {E : ET} {d2 : Nat} (hCl : CallsOK l G d2 cl ∧ hLm G lm ∧ 8 ≤ d2 ∧ LamsOK l G d2 cl) {x0 : Nat} {x1 : Int32} {x2 : Int32} {h : HS} (hw : wb_X0_faultTold cl lm Q E x0 x1 x2 h) : HMet l G yX0_faultTold (ws_ yX0_faultTold cX0_faultTold 4 ((Option.some Jvm.ClassFile.FieldType.int))) (d2 + 1) [.ref x0, .int x1, .int x2] h Q E := by
  refine gh_met (own := RX0) rfl (by decide +kernel) hst (by simp only [lg_sl_i, lg_sl_r, lg_sl_a, lg_sl_2, lg_sl_f, lg_sl_0]; decide) (fun X hXl hXn hret hnm hTb h0 eh C S0 => ?_)
  subst hXl
  have hlm := hCl.2.1
  have hd8 := hCl.2.2.1
  have hd2 : 1 ≤ d2 := Nat.le_trans (by decide) hd8
  have hLa := hCl.2.2.2
  have hd1 : 1 ≤ d2 + 1 := Nat.le_add_left _ _
  have hC9 := hCl
  replace hCl := hCl.1
  have hini : True := trivial
  unfold wb_X0_faultTold at hw
  refine GK.sub (lv' := [(0, .ref x0), (1, .int x1), (2, .int x2)]) [0, 1, 2] (by simp only [lv_args_i, lv_args_r, lv_args_a, lv_args_l, lv_args_f, lv_args_0]; rfl) ?_
  refine gk_iload_n (pc := 0) C.1 2 dX0_faultTold_0 rfl rfl ?_
  refine gc_X0_226 (pc := 1) (As := [.int x2]) (rest := []) C hCl (Nat.le_refl _) hw rfl rfl (Nat.le_of_ble_eq_true rfl) dX0_faultTold_1 (fun v9 h_1 hp => ?_) (fun q_2 h_3 hw ht9 => ?_)
  rotate_left
  · exact gx_out C S0 (by rw [hTb]; decide) ht9 hw
  clear hw
  obtain ⟨rfl, hw⟩ := hp
  refine GK.at (p2 := 4) rfl ?_
  refine gk_aload_n (pc := 4) C.1 0 dX0_faultTold_4 rfl rfl ?_
  refine gc_X0_229 (pc := 5) (As := []) (rest := []) C hCl (Nat.le_refl _) hw rfl rfl (Nat.le_of_ble_eq_true rfl) dX0_faultTold_5 (fun v9 h_4 hp => ?_) (fun q_6 h_7 hw ht9 => ?_)
  rotate_left
  · exact gx_out C S0 (by rw [hTb]; decide) ht9 hw
  clear hw
  obtain ⟨r_5, rfl, hw⟩ := hp
  refine GK.at (p2 := 8) rfl ?_
  obtain ⟨a_8, rfl, hw⟩ := hw
  obtain ⟨ht, hw⟩ := hw
  refine gf_X0_221 (pc := 8) C ht dX0_faultTold_8 (fun r_9 er_9 => ?_)
  replace hw := hw r_9 er_9
  refine gk_iload_n (pc := 11) C.1 1 dX0_faultTold_11 rfl rfl ?_
  obtain ⟨a_10, rfl, hw⟩ := hw
  refine gc_X0_152 (pc := 12) (As := [.int x1]) (rest := []) C hCl (Nat.le_refl _) hw rfl rfl (Nat.le_of_ble_eq_true rfl) dX0_faultTold_12 (fun v9 h_11 hp => ?_) (fun q_13 h_14 hw ht9 => ?_)
  rotate_left
  · exact gx_out C S0 (by rw [hTb]; decide) ht9 hw
  clear hw
  obtain ⟨r_12, rfl, hw⟩ := hp
  refine GK.at (p2 := 15) rfl ?_
  obtain ⟨hs, hw⟩ := hw
  refine gh_ckc (pc := 15) (r := r_12) C q1736 (ck_GathersAllFaults_Found_ok hs) dX0_faultTold_15 ?_
  refine gk_qstore_n (pc := 18) (lv' := [(3, va_rf r_12), (0, Value.ref x0), (1, Value.int x1), (2, Value.int x2)]) C.1 dX0_faultTold_18 rfl (by rw [hXn]; decide) (by first | rfl | simp [va_rf_S, va_rf_cat, cat_i, cat_a, cat_l, cat_f, fin4_0, fin4_1, fin4_2, fin4_3]) ?_
  refine gk_iload_n (pc := 19) C.1 3 dX0_faultTold_19 rfl rfl ?_
  refine gk_if_ne (pc := 20) (tgt := 30) C.1 dX0_faultTold_20 (by decide) (fun c_15 => ?_) (fun c_15 => ?_)
  · replace hw := hw.1 c_15
    refine gk_qload_n (pc := 30) C.1 0 dX0_faultTold_30 rfl rfl ?_
    obtain ⟨a_16, rfl, hw⟩ := hw
    obtain ⟨ht, hw⟩ := hw
    refine gf_X0_235 (pc := 31) C ht dX0_faultTold_31 ?_
    exact gh_iret (pc := 34) C S0 hret dX0_faultTold_34 hw
  · replace hw := hw.2 c_15
    refine gk_qload_n (pc := 23) C.1 0 dX0_faultTold_23 rfl rfl ?_
    obtain ⟨a_17, rfl, hw⟩ := hw
    obtain ⟨ht, hw⟩ := hw
    refine gf_X0_234 (pc := 24) C ht dX0_faultTold_24 ?_
    refine gk_goto (pc := 27) (tgt := 34) C.1 dX0_faultTold_27 (by decide) ?_
    exact gh_iret (pc := 34) C S0 hret dX0_faultTold_34 hw
/-! 68: GathersAllFaults.faults()I -/
def wb_X0_faults (cl : CT) (lm : Nat × Nat) (Q : QT) (E : ET) (x0 : Nat) (h : HS) : Prop := dp_GathersAllFaults_act cl x0 [.int 7, .int 0, .int 0, .int 0] h (gI (fun r_2 h_1 => Q (some (.int r_2)) h_1)) E
theorem wx_X0_faults {l : Launch} (hst : l.stackTraces = false) {G : GG} {cl : CT} {lm : Nat × Nat} {Q : QT} {E : ET} {d2 : Nat} (hCl : CallsOK l G d2 cl ∧ hLm G lm ∧ 8 ≤ d2 ∧ LamsOK l G d2 cl) {x0 : Nat} {h : HS} (hw : wb_X0_faults cl lm Q E x0 h) : HMet l G yX0_faults (ws_ yX0_faults cX0_faults 1 ((Option.some Jvm.ClassFile.FieldType.int))) (d2 + 1) [.ref x0] h Q E := by
  refine gh_met (own := RX0) rfl (by decide +kernel) hst (by simp only [lg_sl_i, lg_sl_r, lg_sl_a, lg_sl_2, lg_sl_f, lg_sl_0]; decide) (fun X hXl hXn hret hnm hTb h0 eh C S0 => ?_)
  subst hXl
  have hlm := hCl.2.1
  have hd8 := hCl.2.2.1
  have hd2 : 1 ≤ d2 := Nat.le_trans (by decide) hd8
  have hLa := hCl.2.2.2
  have hd1 : 1 ≤ d2 + 1 := Nat.le_add_left _ _
  have hC9 := hCl
  replace hCl := hCl.1
  have hini : True := trivial
  unfold wb_X0_faults at hw
  refine GK.sub (lv' := [(0, .ref x0)]) [0] (by simp only [lv_args_i, lv_args_r, lv_args_a, lv_args_l, lv_args_f, lv_args_0]; rfl) ?_
  refine gk_aload_n (pc := 0) C.1 0 dX0_faults_0 rfl rfl ?_
  refine gk_bipush (pc := 1) (v := 7) C.1 dX0_faults_1 (by decide) ?_
  refine gk_iconst (pc := 3) (v := 0) C.1 dX0_faults_3 (by decide) ?_
  refine gk_iconst (pc := 4) (v := 0) C.1 dX0_faults_4 (by decide) ?_
  refine gk_iconst (pc := 5) (v := 0) C.1 dX0_faults_5 (by decide) ?_
  refine gc_X0_455 (pc := 6) (As := [.int 7, .int 0, .int 0, .int 0]) (rest := []) C hCl (Nat.le_refl _) hw rfl rfl (Nat.le_of_ble_eq_true rfl) dX0_faults_6 (fun v9 h_1 hp => ?_) (fun q_3 h_4 hw ht9 => ?_)
  rotate_left
  · exact gx_out C S0 (by rw [hTb]; decide) ht9 hw
  clear hw
  obtain ⟨r_2, rfl, hw⟩ := hp
  refine GK.at (p2 := 9) rfl ?_
  exact gh_iret (pc := 9) C S0 hret dX0_faults_9 hw
/-! 69: GathersAllFaults.findingWith(II)LGathersAllFaults$Finding; -/
def wb_X0_findingWith_41 (cl : CT) (lm : Nat × Nat) (Q : QT) (E : ET) (x0 : Nat) (x1 : Int32) (x3 : Option Nat) (s0 : Nat) (h : HS) : Prop := dp_GathersAllFaults_swap cl x0 [.int x1, va_rf x3] h (gR (fun r_2 h_1 => (hT h_1 s0 = 16 ∨ hT h_1 s0 = 17) ∧ (E s0 h_1))) E
theorem wk_X0_findingWith_41 {X : Ev} {G : GG} {cl : CT} {lm : Nat × Nat} {Q : QT} {E : ET} {h0 : HS} {d2 : Nat} (C : HC X G RX0 cX0_findingWith (d2 + 1)) (hCl : CallsOK (ev_l X) G d2 cl ∧ hLm G lm ∧ 8 ≤ d2 ∧ LamsOK (ev_l X) G d2 cl) (S0 : HS0 X h0) (hret : (ev_h X).sig.returnType = (Option.some (Jvm.ClassFile.FieldType.object "GathersAllFaults$Finding"))) (hXn : ev_n X = 6) (hini : True) (hTb : (ev_c X).exceptionTable.toList = tableOf [(18, 31, 41, 0), (41, 43, 41, 0)]) : ∀ (x0 : Nat) (x1 : Int32) (x3 : Option Nat) (s0 : Nat) (h : HS), wb_X0_findingWith_41 cl lm Q E x0 x1 x3 s0 h → GH X G h (hQ X G h0 Q E) 41 [(0, .ref x0), (1, .int x1), (3, va_rf x3)] [.ref s0] := by
  have hlm := hCl.2.1
  have hd8 := hCl.2.2.1
  have hd2 : 1 ≤ d2 := Nat.le_trans (by decide) hd8
  have hLa := hCl.2.2.2
  have hd1 : 1 ≤ d2 + 1 := Nat.le_add_left _ _
  have hC9 := hCl
  replace hCl := hCl.1
  intro x0 x1 x3 s0 h hw
  unfold wb_X0_findingWith_41 at hw
  refine gk_astore (pc := 41) (lv' := [(5, Value.ref s0), (0, Value.ref x0), (1, Value.int x1), (3, va_rf x3)]) C.1 dX0_findingWith_41 (by rw [hXn]; decide) (by first | rfl | simp [va_rf_S, va_rf_cat, cat_i, cat_a, cat_l, cat_f, fin4_0, fin4_1, fin4_2, fin4_3]) ?_
  refine gk_aload_n (pc := 43) C.1 1 dX0_findingWith_43 rfl rfl ?_
  refine gk_iload_n (pc := 44) C.1 2 dX0_findingWith_44 rfl rfl ?_
  refine gk_qload_n (pc := 45) C.1 3 dX0_findingWith_45 rfl rfl ?_
  refine gc_X0_218 (pc := 46) (As := [.int x1, va_rf x3]) (rest := []) C hCl (Nat.le_refl _) hw rfl rfl (Nat.le_of_ble_eq_true rfl) dX0_findingWith_46 (fun v9 h_1 hp => ?_) (fun q_3 h_4 hw ht9 => ?_)
  rotate_left
  · exact gx_out C S0 (by rw [hTb]; decide) ht9 hw
  clear hw
  obtain ⟨r_2, rfl, hw⟩ := hp
  refine GK.at (p2 := 49) rfl ?_
  refine gk_pop (pc := 49) C.1 dX0_findingWith_49 (va_rf_cat _) ?_
  refine gk_aload (pc := 50) C.1 0 dX0_findingWith_50 rfl ?_
  refine gh_athrow (pc := 52) C dX0_findingWith_52 ?_
  obtain ⟨ht9, hw⟩ := hw
  exact gx_out C S0 (by rw [hTb]; decide) ht9 hw
def wb_X0_findingWith (cl : CT) (lm : Nat × Nat) (Q : QT) (E : ET) (x0 : Nat) (x1 : Int32) (x2 : Int32) (h : HS) : Prop := (hT h x0 = 1) ∧ (∀ r_1 : Option Nat, r_1 = hR h 10 x0 → (∃ a_2 : Nat, r_1 = some a_2 ∧ ((hT h a_2 = 2) ∧ (∀ h_3 : HS, h_3 = sI h 17 a_2 x2 → ((hT h_3 x0 = 1) ∧ (∀ r_4 : Option Nat, r_4 = hR h_3 10 x0 → (dp_GathersAllFaults_swap cl x0 [.int x1, va_rf r_4] h_3 (gR (fun r_6 h_5 => (hT h_5 x0 = 1) ∧ (∀ r_9 : Option Nat, r_9 = hR h_5 1 x0 → ((hT h_5 x0 = 1) ∧ (∀ r_10 : Option Nat, r_10 = hR h_5 0 x0 → (∃ a_11 : Nat, r_9 = some a_11 ∧ (dp_Compiled_of cl a_11 [va_rf r_10] h_5 (gR (fun r_13 h_12 => dp_GathersAllFaults_swap cl x0 [.int x1, va_rf r_6] h_12 (gR (fun r_17 h_16 => Q (some (va_rf r_13)) h_16)) E)) (fun q_14 h_15 => wb_X0_findingWith_41 cl lm Q E x0 x1 r_6 q_14 h_15)))))))) E)))))))
theorem wx_X0_findingWith {l : Launch} (hst : l.stackTraces = false) {G : GG} {cl : CT} {lm : Nat × Nat} {Q : QT} {E : ET} {d2 : Nat} (hCl : CallsOK l G d2 cl ∧ hLm G lm ∧ 8 ≤ d2 ∧ LamsOK l G d2 cl) {x0 : Nat} {x1 : Int32} {x2 : Int32} {h : HS} (hw : wb_X0_findingWith cl lm Q E x0 x1 x2 h) : HMet l G yX0_findingWith (wsW_ yX0_findingWith cX0_findingWith 6 ((Option.some (Jvm.ClassFile.FieldType.object "GathersAllFaults$Finding"))) [(18, 31, 41, 0), (41, 43, 41, 0)]) (d2 + 1) [.ref x0, .int x1, .int x2] h Q E := by
  refine gh_metW (own := RX0) rfl (by decide +kernel) hst (by simp only [lg_sl_i, lg_sl_r, lg_sl_a, lg_sl_2, lg_sl_f, lg_sl_0]; decide) (fun X hXl hXn hret hnm hTb h0 eh C S0 => ?_)
  subst hXl
  have hlm := hCl.2.1
  have hd8 := hCl.2.2.1
  have hd2 : 1 ≤ d2 := Nat.le_trans (by decide) hd8
  have hLa := hCl.2.2.2
  have hd1 : 1 ≤ d2 + 1 := Nat.le_add_left _ _
  have hC9 := hCl
  replace hCl := hCl.1
  have hini : True := trivial
  unfold wb_X0_findingWith at hw
  refine GK.sub (lv' := [(0, .ref x0), (1, .int x1), (2, .int x2)]) [0, 1, 2] (by simp only [lv_args_i, lv_args_r, lv_args_a, lv_args_l, lv_args_f, lv_args_0]; rfl) ?_
  refine gk_aload_n (pc := 0) C.1 0 dX0_findingWith_0 rfl rfl ?_
  obtain ⟨ht, hw⟩ := hw
  refine gf_X0_89 (pc := 1) C ht dX0_findingWith_1 (fun r_1 er_1 => ?_)
  replace hw := hw r_1 er_1
  refine gk_iload_n (pc := 4) C.1 2 dX0_findingWith_4 rfl rfl ?_
  obtain ⟨a_2, rfl, hw⟩ := hw
  obtain ⟨ht, hw⟩ := hw
  refine gfp_X0_50 (pc := 5) C ht dX0_findingWith_5 (fun h_3 eh_3 => ?_)
  replace hw := hw h_3 eh_3
  refine gk_aload_n (pc := 8) C.1 0 dX0_findingWith_8 rfl rfl ?_
  refine gk_iload_n (pc := 9) C.1 1 dX0_findingWith_9 rfl rfl ?_
  refine gk_aload_n (pc := 10) C.1 0 dX0_findingWith_10 rfl rfl ?_
  obtain ⟨ht, hw⟩ := hw
  refine gf_X0_89 (pc := 11) C ht dX0_findingWith_11 (fun r_4 er_4 => ?_)
  replace hw := hw r_4 er_4
  refine gc_X0_218 (pc := 14) (As := [.int x1, va_rf r_4]) (rest := []) C hCl (Nat.le_refl _) hw rfl rfl (Nat.le_of_ble_eq_true rfl) dX0_findingWith_14 (fun v9 h_5 hp => ?_) (fun q_7 h_8 hw ht9 => ?_)
  rotate_left
  · exact gx_out C S0 (by rw [hTb]; decide) ht9 hw
  clear hw
  obtain ⟨r_6, rfl, hw⟩ := hp
  refine GK.at (p2 := 17) rfl ?_
  refine gk_qstore_n (pc := 17) (lv' := [(3, va_rf r_6), (0, Value.ref x0), (1, Value.int x1), (2, Value.int x2)]) C.1 dX0_findingWith_17 rfl (by rw [hXn]; decide) (by first | rfl | simp [va_rf_S, va_rf_cat, cat_i, cat_a, cat_l, cat_f, fin4_0, fin4_1, fin4_2, fin4_3]) ?_
  refine gk_aload_n (pc := 18) C.1 1 dX0_findingWith_18 rfl rfl ?_
  obtain ⟨ht, hw⟩ := hw
  refine gf_X0_73 (pc := 19) C ht dX0_findingWith_19 (fun r_9 er_9 => ?_)
  replace hw := hw r_9 er_9
  refine gk_aload_n (pc := 22) C.1 1 dX0_findingWith_22 rfl rfl ?_
  obtain ⟨ht, hw⟩ := hw
  refine gf_X0_66 (pc := 23) C ht dX0_findingWith_23 (fun r_10 er_10 => ?_)
  replace hw := hw r_10 er_10
  obtain ⟨a_11, rfl, hw⟩ := hw
  refine gc_X0_192 (pc := 26) (As := [va_rf r_10]) (rest := []) C hCl (Nat.le_refl _) hw rfl rfl (Nat.le_of_ble_eq_true rfl) dX0_findingWith_26 (fun v9 h_12 hp => ?_) (fun q_14 h_15 hw ht9 => ?_)
  rotate_left
  · refine gx_any C [] ⟨18, 31, 41, 0⟩ [⟨41, 43, 41, 0⟩] (by rw [hTb]; rfl) (by decide) (by decide) rfl ht9 ?_
    refine GK.sub (lv' := [(0, .ref x0), (1, .int x1), (3, va_rf r_6)]) [1, 2, 0] rfl ?_
    exact wk_X0_findingWith_41 C hC9 S0 hret hXn hini hTb  _ _ _ _ _ hw
  clear hw
  obtain ⟨r_13, rfl, hw⟩ := hp
  refine GK.at (p2 := 29) rfl ?_
  refine gk_qstore (pc := 29) (lv' := [(4, va_rf r_13), (3, va_rf r_6), (0, Value.ref x0), (1, Value.int x1), (2, Value.int x2)]) C.1 dX0_findingWith_29 (by rw [hXn]; decide) (by first | rfl | simp [va_rf_S, va_rf_cat, cat_i, cat_a, cat_l, cat_f, fin4_0, fin4_1, fin4_2, fin4_3]) ?_
  refine gk_aload_n (pc := 31) C.1 2 dX0_findingWith_31 rfl rfl ?_
  refine gk_iload_n (pc := 32) C.1 3 dX0_findingWith_32 rfl rfl ?_
  refine gk_qload_n (pc := 33) C.1 1 dX0_findingWith_33 rfl rfl ?_
  refine gc_X0_218 (pc := 34) (As := [.int x1, va_rf r_6]) (rest := []) C hCl (Nat.le_refl _) hw rfl rfl (Nat.le_of_ble_eq_true rfl) dX0_findingWith_34 (fun v9 h_16 hp => ?_) (fun q_18 h_19 hw ht9 => ?_)
  rotate_left
  · exact gx_out C S0 (by rw [hTb]; decide) ht9 hw
  clear hw
  obtain ⟨r_17, rfl, hw⟩ := hp
  refine GK.at (p2 := 37) rfl ?_
  refine gk_pop (pc := 37) C.1 dX0_findingWith_37 (va_rf_cat _) ?_
  refine gk_qload (pc := 38) C.1 0 dX0_findingWith_38 rfl ?_
  exact gh_aret (pc := 40) (r := r_13) C S0 hret (Or.inl ⟨_, rfl⟩) dX0_findingWith_40 hw
/-! 70: GathersAllFaults.first()I -/
def wb_X0_first (cl : CT) (lm : Nat × Nat) (Q : QT) (E : ET) (x0 : Nat) (h : HS) : Prop := dp_GathersAllFaults_act cl x0 [.int 12, .int 0, .int 0, .int 0] h (gI (fun r_2 h_1 => Q (some (.int r_2)) h_1)) E
theorem wx_X0_first {l : Launch} (hst : l.stackTraces = false) {G : GG} {cl : CT} {lm : Nat × Nat} {Q : QT} {E : ET} {d2 : Nat} (hCl : CallsOK l G d2 cl ∧ hLm G lm ∧ 8 ≤ d2 ∧ LamsOK l G d2 cl) {x0 : Nat} {h : HS} (hw : wb_X0_first cl lm Q E x0 h) : HMet l G yX0_first (ws_ yX0_first cX0_first 1 ((Option.some Jvm.ClassFile.FieldType.int))) (d2 + 1) [.ref x0] h Q E := by
  refine gh_met (own := RX0) rfl (by decide +kernel) hst (by simp only [lg_sl_i, lg_sl_r, lg_sl_a, lg_sl_2, lg_sl_f, lg_sl_0]; decide) (fun X hXl hXn hret hnm hTb h0 eh C S0 => ?_)
  subst hXl
  have hlm := hCl.2.1
  have hd8 := hCl.2.2.1
  have hd2 : 1 ≤ d2 := Nat.le_trans (by decide) hd8
  have hLa := hCl.2.2.2
  have hd1 : 1 ≤ d2 + 1 := Nat.le_add_left _ _
  have hC9 := hCl
  replace hCl := hCl.1
  have hini : True := trivial
  unfold wb_X0_first at hw
  refine GK.sub (lv' := [(0, .ref x0)]) [0] (by simp only [lv_args_i, lv_args_r, lv_args_a, lv_args_l, lv_args_f, lv_args_0]; rfl) ?_
  refine gk_aload_n (pc := 0) C.1 0 dX0_first_0 rfl rfl ?_
  refine gk_bipush (pc := 1) (v := 12) C.1 dX0_first_1 (by decide) ?_
  refine gk_iconst (pc := 3) (v := 0) C.1 dX0_first_3 (by decide) ?_
  refine gk_iconst (pc := 4) (v := 0) C.1 dX0_first_4 (by decide) ?_
  refine gk_iconst (pc := 5) (v := 0) C.1 dX0_first_5 (by decide) ?_
  refine gc_X0_455 (pc := 6) (As := [.int 12, .int 0, .int 0, .int 0]) (rest := []) C hCl (Nat.le_refl _) hw rfl rfl (Nat.le_of_ble_eq_true rfl) dX0_first_6 (fun v9 h_1 hp => ?_) (fun q_3 h_4 hw ht9 => ?_)
  rotate_left
  · exact gx_out C S0 (by rw [hTb]; decide) ht9 hw
  clear hw
  obtain ⟨r_2, rfl, hw⟩ := hp
  refine GK.at (p2 := 9) rfl ?_
  exact gh_iret (pc := 9) C S0 hret dX0_first_9 hw
/-! 71: GathersAllFaults.found()LGathersAllFaults$Finding; -/
def wb_X0_found (cl : CT) (lm : Nat × Nat) (Q : QT) (E : ET) (x0 : Nat) (h : HS) : Prop := (hT h x0 = 1) ∧ (∀ r_1 : Option Nat, r_1 = hR h 1 x0 → ((hT h x0 = 1) ∧ (∀ r_2 : Option Nat, r_2 = hR h 0 x0 → (∃ a_3 : Nat, r_1 = some a_3 ∧ (dp_Compiled_of cl a_3 [va_rf r_2] h (gR (fun r_5 h_4 => Q (some (va_rf r_5)) h_4)) E)))))
theorem wx_X0_found {l : Launch} (hst : l.stackTraces = false) {G : GG} {cl : CT} {lm : Nat × Nat} {Q : QT} {E : ET} {d2 : Nat} (hCl : CallsOK l G d2 cl ∧ hLm G lm ∧ 8 ≤ d2 ∧ LamsOK l G d2 cl) {x0 : Nat} {h : HS} (hw : wb_X0_found cl lm Q E x0 h) : HMet l G yX0_found (ws_ yX0_found cX0_found 1 ((Option.some (Jvm.ClassFile.FieldType.object "GathersAllFaults$Finding")))) (d2 + 1) [.ref x0] h Q E := by
  refine gh_met (own := RX0) rfl (by decide +kernel) hst (by simp only [lg_sl_i, lg_sl_r, lg_sl_a, lg_sl_2, lg_sl_f, lg_sl_0]; decide) (fun X hXl hXn hret hnm hTb h0 eh C S0 => ?_)
  subst hXl
  have hlm := hCl.2.1
  have hd8 := hCl.2.2.1
  have hd2 : 1 ≤ d2 := Nat.le_trans (by decide) hd8
  have hLa := hCl.2.2.2
  have hd1 : 1 ≤ d2 + 1 := Nat.le_add_left _ _
  have hC9 := hCl
  replace hCl := hCl.1
  have hini : True := trivial
  unfold wb_X0_found at hw
  refine GK.sub (lv' := [(0, .ref x0)]) [0] (by simp only [lv_args_i, lv_args_r, lv_args_a, lv_args_l, lv_args_f, lv_args_0]; rfl) ?_
  refine gk_aload_n (pc := 0) C.1 0 dX0_found_0 rfl rfl ?_
  obtain ⟨ht, hw⟩ := hw
  refine gf_X0_73 (pc := 1) C ht dX0_found_1 (fun r_1 er_1 => ?_)
  replace hw := hw r_1 er_1
  refine gk_aload_n (pc := 4) C.1 0 dX0_found_4 rfl rfl ?_
  obtain ⟨ht, hw⟩ := hw
  refine gf_X0_66 (pc := 5) C ht dX0_found_5 (fun r_2 er_2 => ?_)
  replace hw := hw r_2 er_2
  obtain ⟨a_3, rfl, hw⟩ := hw
  refine gc_X0_192 (pc := 8) (As := [va_rf r_2]) (rest := []) C hCl (Nat.le_refl _) hw rfl rfl (Nat.le_of_ble_eq_true rfl) dX0_found_8 (fun v9 h_4 hp => ?_) (fun q_6 h_7 hw ht9 => ?_)
  rotate_left
  · exact gx_out C S0 (by rw [hTb]; decide) ht9 hw
  clear hw
  obtain ⟨r_5, rfl, hw⟩ := hp
  refine GK.at (p2 := 11) rfl ?_
  exact gh_aret (pc := 11) (r := r_5) C S0 hret (Or.inl ⟨_, rfl⟩) dX0_found_11 hw
/-! 72: GathersAllFaults.foundWith(ILGathersAllFaults$Value;)I -/
def wb_X0_foundWith (cl : CT) (lm : Nat × Nat) (Q : QT) (E : ET) (x0 : Nat) (x1 : Int32) (x2 : Option Nat) (h : HS) : Prop := (hT h x0 = 1) ∧ (∀ r_1 : Option Nat, r_1 = hR h 1 x0 → ((hT h x0 = 1) ∧ (∀ r_2 : Option Nat, r_2 = hR h 0 x0 → (cl 52 [va_rf r_2, .int x1, va_rf x2] h (gR (fun r_4 h_3 => ∃ a_7 : Nat, r_1 = some a_7 ∧ (dp_Compiled_of cl a_7 [va_rf r_4] h_3 (gR (fun r_9 h_8 => ∃ a_12 : Nat, r_9 = some a_12 ∧ ((hT h_8 a_12 = 9) ∧ (∀ r_13 : Option Nat, r_13 = hR h_8 28 a_12 → (∃ a_14 : Nat, r_13 = some a_14 ∧ ((hT h_8 a_14 = 7) ∧ (Q (some (.int (hI h_8 24 a_14))) h_8))))))) E))) E))))
theorem wx_X0_foundWith {l : Launch} (hst : l.stackTraces = false) {G : GG} {cl : CT} {lm : Nat × Nat} {Q : QT} {E : ET} {d2 : Nat} (hCl : CallsOK l G d2 cl ∧ hLm G lm ∧ 8 ≤ d2 ∧ LamsOK l G d2 cl) {x0 : Nat} {x1 : Int32} {x2 : Option Nat} {h : HS} (hw : wb_X0_foundWith cl lm Q E x0 x1 x2 h) : HMet l G yX0_foundWith (ws_ yX0_foundWith cX0_foundWith 3 ((Option.some Jvm.ClassFile.FieldType.int))) (d2 + 1) [.ref x0, .int x1, va_rf x2] h Q E := by
  refine gh_met (own := RX0) rfl (by decide +kernel) hst (by simp only [lg_sl_i, lg_sl_r, lg_sl_a, lg_sl_2, lg_sl_f, lg_sl_0]; decide) (fun X hXl hXn hret hnm hTb h0 eh C S0 => ?_)
  subst hXl
  have hlm := hCl.2.1
  have hd8 := hCl.2.2.1
  have hd2 : 1 ≤ d2 := Nat.le_trans (by decide) hd8
  have hLa := hCl.2.2.2
  have hd1 : 1 ≤ d2 + 1 := Nat.le_add_left _ _
  have hC9 := hCl
  replace hCl := hCl.1
  have hini : True := trivial
  unfold wb_X0_foundWith at hw
  refine GK.sub (lv' := [(0, .ref x0), (1, .int x1), (2, va_rf x2)]) [0, 1, 2] (by simp only [lv_args_i, lv_args_r, lv_args_a, lv_args_l, lv_args_f, lv_args_0]; rfl) ?_
  refine gk_aload_n (pc := 0) C.1 0 dX0_foundWith_0 rfl rfl ?_
  obtain ⟨ht, hw⟩ := hw
  refine gf_X0_73 (pc := 1) C ht dX0_foundWith_1 (fun r_1 er_1 => ?_)
  replace hw := hw r_1 er_1
  refine gk_aload_n (pc := 4) C.1 0 dX0_foundWith_4 rfl rfl ?_
  obtain ⟨ht, hw⟩ := hw
  refine gf_X0_66 (pc := 5) C ht dX0_foundWith_5 (fun r_2 er_2 => ?_)
  replace hw := hw r_2 er_2
  refine gk_iload_n (pc := 8) C.1 1 dX0_foundWith_8 rfl rfl ?_
  refine gk_qload_n (pc := 9) C.1 2 dX0_foundWith_9 rfl rfl ?_
  refine gc_X0_165 (pc := 10) (As := [va_rf r_2, .int x1, va_rf x2]) (rest := [va_rf r_1]) C hCl (Nat.le_refl _) hw rfl rfl (by simp [va_rf_S, va_rf_cat, cat_i, cat_a, cat_l, cat_f, fin4_0, fin4_1, fin4_2, fin4_3]) dX0_foundWith_10 (fun v9 h_3 hp => ?_) (fun q_5 h_6 hw ht9 => ?_)
  rotate_left
  · exact gx_out C S0 (by rw [hTb]; decide) ht9 hw
  clear hw
  obtain ⟨r_4, rfl, hw⟩ := hp
  refine GK.at (p2 := 13) rfl ?_
  obtain ⟨a_7, rfl, hw⟩ := hw
  refine gc_X0_192 (pc := 13) (As := [va_rf r_4]) (rest := []) C hCl (Nat.le_refl _) hw rfl rfl (Nat.le_of_ble_eq_true rfl) dX0_foundWith_13 (fun v9 h_8 hp => ?_) (fun q_10 h_11 hw ht9 => ?_)
  rotate_left
  · exact gx_out C S0 (by rw [hTb]; decide) ht9 hw
  clear hw
  obtain ⟨r_9, rfl, hw⟩ := hp
  refine GK.at (p2 := 16) rfl ?_
  obtain ⟨a_12, rfl, hw⟩ := hw
  obtain ⟨ht, hw⟩ := hw
  refine gf_X0_221 (pc := 16) C ht dX0_foundWith_16 (fun r_13 er_13 => ?_)
  replace hw := hw r_13 er_13
  obtain ⟨a_14, rfl, hw⟩ := hw
  obtain ⟨ht, hw⟩ := hw
  refine gf_X0_149 (pc := 19) C ht dX0_foundWith_19 ?_
  exact gh_iret (pc := 22) C S0 hret dX0_foundWith_22 hw
/-! 73: GathersAllFaults.greatestPath()I -/
def wb_X0_greatestPath_9 (cl : CT) (lm : Nat × Nat) (Q : QT) (E : ET) : Nat → Option Nat → Int32 → Int32 → HS → Prop
  | 0 => fun _ _ _ _ => False
  | n + 1 => fun x1 x2 x3 h => ∃ a_1 : Nat, x1 = some a_1 ∧ ((hT h a_1 = 7) ∧ ((((hI h 24 a_1) ≤ x3 → (Q (some (.int x2)) h)) ∧ (¬ (hI h 24 a_1) ≤ x3 → (dp_Row_at cl a_1 [.int x3] h (gR (fun r_4 h_3 => ck_GathersAllFaults_Part h_3 r_4 ∧ (∃ a_7 : Nat, r_4 = some a_7 ∧ ((hT h_3 a_7 = 6) ∧ (∀ x_8 : Int32, x_8 = (if x2 < (hI h_3 21 a_7) then (hI h_3 21 a_7) else x2) → (∀ x_9 : Int32, x_9 = x3 + 1 → (wb_X0_greatestPath_9 cl lm Q E n (some a_1) x_8 x_9 h_3))))))) E)))))
theorem wk_X0_greatestPath_9 {X : Ev} {G : GG} {cl : CT} {lm : Nat × Nat} {Q : QT} {E : ET} {h0 : HS} {d2 : Nat} (C : HC X G RX0 cX0_greatestPath (d2 + 1)) (hCl : CallsOK (ev_l X) G d2 cl ∧ hLm G lm ∧ 8 ≤ d2 ∧ LamsOK (ev_l X) G d2 cl) (S0 : HS0 X h0) (hret : (ev_h X).sig.returnType = (Option.some Jvm.ClassFile.FieldType.int)) (hXn : ev_n X = 4) (hini : True) (hTb : (ev_c X).exceptionTable.toList = []) : ∀ (n : Nat) (x1 : Option Nat) (x2 : Int32) (x3 : Int32) (h : HS), wb_X0_greatestPath_9 cl lm Q E n x1 x2 x3 h → GH X G h (hQ X G h0 Q E) 9 [(1, va_rf x1), (2, .int x2), (3, .int x3)] [] := by
  have hlm := hCl.2.1
  have hd8 := hCl.2.2.1
  have hd2 : 1 ≤ d2 := Nat.le_trans (by decide) hd8
  have hLa := hCl.2.2.2
  have hd1 : 1 ≤ d2 + 1 := Nat.le_add_left _ _
  have hC9 := hCl
  replace hCl := hCl.1
  intro n
  induction n with
  | zero => intro x1 x2 x3 h hw; exact hw.elim
  | succ n ih =>
  intro x1 x2 x3 h hw
  unfold wb_X0_greatestPath_9 at hw
  refine gk_iload_n (pc := 9) C.1 2 dX0_greatestPath_9 rfl rfl ?_
  refine gk_qload_n (pc := 10) C.1 0 dX0_greatestPath_10 rfl rfl ?_
  obtain ⟨a_1, rfl, hw⟩ := hw
  obtain ⟨ht, hw⟩ := hw
  refine gf_X0_149 (pc := 11) C ht dX0_greatestPath_11 ?_
  refine gk_icmp_ge (pc := 14) (tgt := 39) C.1 dX0_greatestPath_14 (by decide) (fun c_2 => ?_) (fun c_2 => ?_)
  · replace hw := hw.1 c_2
    refine gk_iload_n (pc := 39) C.1 1 dX0_greatestPath_39 rfl rfl ?_
    exact gh_iret (pc := 40) C S0 hret dX0_greatestPath_40 hw
  · replace hw := hw.2 c_2
    refine gk_iload_n (pc := 17) C.1 1 dX0_greatestPath_17 rfl rfl ?_
    refine gk_aload_n (pc := 18) C.1 0 dX0_greatestPath_18 rfl rfl ?_
    refine gk_iload_n (pc := 19) C.1 2 dX0_greatestPath_19 rfl rfl ?_
    refine gc_X0_152 (pc := 20) (As := [.int x3]) (rest := [.int x2]) C hCl (Nat.le_refl _) hw rfl rfl (Nat.le_of_ble_eq_true rfl) dX0_greatestPath_20 (fun v9 h_3 hp => ?_) (fun q_5 h_6 hw ht9 => ?_)
    rotate_left
    · exact gx_out C S0 (by rw [hTb]; decide) ht9 hw
    clear hw
    obtain ⟨r_4, rfl, hw⟩ := hp
    refine GK.at (p2 := 23) rfl ?_
    obtain ⟨hs, hw⟩ := hw
    refine gh_ckc (pc := 23) (r := r_4) C q1641 (ck_GathersAllFaults_Part_ok hs) dX0_greatestPath_23 ?_
    obtain ⟨a_7, rfl, hw⟩ := hw
    obtain ⟨ht, hw⟩ := hw
    refine gf_X0_157 (pc := 26) C ht dX0_greatestPath_26 ?_
    refine gh_mmax (pc := 29) C hd1 q2098 (Nat.le_of_ble_eq_true rfl) dX0_greatestPath_29 ?_
    obtain ⟨x_8, ex_8⟩ : ∃ z : Int32, z = (if x2 < (hI h_3 21 a_7) then (hI h_3 21 a_7) else x2) := ⟨_, rfl⟩
    rw [← ex_8]
    replace hw := hw x_8 ex_8
    refine gk_istore_n (pc := 32) (lv' := [(2, Value.int x_8), (1, Value.ref a_1), (3, Value.int x3)]) C.1 dX0_greatestPath_32 rfl (by rw [hXn]; decide) (by first | rfl | simp [va_rf_S, va_rf_cat, cat_i, cat_a, cat_l, cat_f, fin4_0, fin4_1, fin4_2, fin4_3]) ?_
    obtain ⟨x_9, ex_9⟩ : ∃ z : Int32, z = x3 + 1 := ⟨_, rfl⟩
    replace hw := hw x_9 ex_9
    refine gk_iinc (pc := 33) (v := x_9) (lv' := [(3, Value.int x_9), (2, Value.int x_8), (1, Value.ref a_1)]) C.1 2 dX0_greatestPath_33 rfl (by rw [ex_9]; rfl) (by rw [hXn]; decide) (by first | rfl | simp [va_rf_S, va_rf_cat, cat_i, cat_a, cat_l, cat_f, fin4_0, fin4_1, fin4_2, fin4_3]) ?_
    refine gk_goto (pc := 36) (tgt := 9) C.1 dX0_greatestPath_36 (by decide) ?_
    refine GK.sub (lv' := [(1, va_rf (some a_1)), (2, .int x_8), (3, .int x_9)]) [2, 1, 0] rfl ?_
    exact ih _ _ _ _ hw
def wb_X0_greatestPath (cl : CT) (lm : Nat × Nat) (Q : QT) (E : ET) (x0 : Nat) (h : HS) : Prop := dp_GathersAllFaults_parts cl x0 [] h (gR (fun r_2 h_1 => ∃ fu : Nat, wb_X0_greatestPath_9 cl lm Q E fu r_2 0 0 h_1)) E
theorem wx_X0_greatestPath {l : Launch} (hst : l.stackTraces = false) {G : GG} {cl : CT} {lm : Nat × Nat} {Q : QT} {E : ET} {d2 : Nat} (hCl : CallsOK l G d2 cl ∧ hLm G lm ∧ 8 ≤ d2 ∧ LamsOK l G d2 cl) {x0 : Nat} {h : HS} (hw : wb_X0_greatestPath cl lm Q E x0 h) : HMet l G yX0_greatestPath (ws_ yX0_greatestPath cX0_greatestPath 4 ((Option.some Jvm.ClassFile.FieldType.int))) (d2 + 1) [.ref x0] h Q E := by
  refine gh_met (own := RX0) rfl (by decide +kernel) hst (by simp only [lg_sl_i, lg_sl_r, lg_sl_a, lg_sl_2, lg_sl_f, lg_sl_0]; decide) (fun X hXl hXn hret hnm hTb h0 eh C S0 => ?_)
  subst hXl
  have hlm := hCl.2.1
  have hd8 := hCl.2.2.1
  have hd2 : 1 ≤ d2 := Nat.le_trans (by decide) hd8
  have hLa := hCl.2.2.2
  have hd1 : 1 ≤ d2 + 1 := Nat.le_add_left _ _
  have hC9 := hCl
  replace hCl := hCl.1
  have hini : True := trivial
  unfold wb_X0_greatestPath at hw
  refine GK.sub (lv' := [(0, .ref x0)]) [0] (by simp only [lv_args_i, lv_args_r, lv_args_a, lv_args_l, lv_args_f, lv_args_0]; rfl) ?_
  refine gk_aload_n (pc := 0) C.1 0 dX0_greatestPath_0 rfl rfl ?_
  refine gc_X0_145 (pc := 1) (As := []) (rest := []) C hCl (Nat.le_refl _) hw rfl rfl (Nat.le_of_ble_eq_true rfl) dX0_greatestPath_1 (fun v9 h_1 hp => ?_) (fun q_3 h_4 hw ht9 => ?_)
  rotate_left
  · exact gx_out C S0 (by rw [hTb]; decide) ht9 hw
  clear hw
  obtain ⟨r_2, rfl, hw⟩ := hp
  refine GK.at (p2 := 4) rfl ?_
  refine gk_qstore_n (pc := 4) (lv' := [(1, va_rf r_2), (0, Value.ref x0)]) C.1 dX0_greatestPath_4 rfl (by rw [hXn]; decide) (by first | rfl | simp [va_rf_S, va_rf_cat, cat_i, cat_a, cat_l, cat_f, fin4_0, fin4_1, fin4_2, fin4_3]) ?_
  refine gk_iconst (pc := 5) (v := 0) C.1 dX0_greatestPath_5 (by decide) ?_
  refine gk_istore_n (pc := 6) (lv' := [(2, Value.int 0), (1, va_rf r_2), (0, Value.ref x0)]) C.1 dX0_greatestPath_6 rfl (by rw [hXn]; decide) (by first | rfl | simp [va_rf_S, va_rf_cat, cat_i, cat_a, cat_l, cat_f, fin4_0, fin4_1, fin4_2, fin4_3]) ?_
  refine gk_iconst (pc := 7) (v := 0) C.1 dX0_greatestPath_7 (by decide) ?_
  refine gk_istore_n (pc := 8) (lv' := [(3, Value.int 0), (2, Value.int 0), (1, va_rf r_2), (0, Value.ref x0)]) C.1 dX0_greatestPath_8 rfl (by rw [hXn]; decide) (by first | rfl | simp [va_rf_S, va_rf_cat, cat_i, cat_a, cat_l, cat_f, fin4_0, fin4_1, fin4_2, fin4_3]) ?_
  refine GK.sub (lv' := [(1, va_rf r_2), (2, .int 0), (3, .int 0)]) [2, 1, 0] rfl ?_
  obtain ⟨n9, hw⟩ := hw
  exact wk_X0_greatestPath_9 C hC9 S0 hret hXn hini hTb  n9 _ _ _ _ hw
/-! 74: GathersAllFaults.has(II)Z -/
def wb_X0_has (cl : CT) (lm : Nat × Nat) (Q : QT) (E : ET) (x0 : Int32) (x1 : Int32) (h : HS) : Prop := ((¬ ((x0 >>> (x1 &&& 31)) &&& 1) = 1 → (Q (some (.int 0)) h)) ∧ (((x0 >>> (x1 &&& 31)) &&& 1) = 1 → (Q (some (.int 1)) h)))
theorem wx_X0_has {l : Launch} (hst : l.stackTraces = false) {G : GG} {cl : CT} {lm : Nat × Nat} {Q : QT} {E : ET} {d2 : Nat} (hCl : CallsOK l G d2 cl ∧ hLm G lm ∧ 8 ≤ d2 ∧ LamsOK l G d2 cl) {x0 : Int32} {x1 : Int32} {h : HS} (hw : wb_X0_has cl lm Q E x0 x1 h) : HMet l G yX0_has (ws_ yX0_has cX0_has 2 ((Option.some Jvm.ClassFile.FieldType.boolean))) (d2 + 1) [.int x0, .int x1] h Q E := by
  refine gh_met (own := RX0) rfl (by decide +kernel) hst (by simp only [lg_sl_i, lg_sl_r, lg_sl_a, lg_sl_2, lg_sl_f, lg_sl_0]; decide) (fun X hXl hXn hret hnm hTb h0 eh C S0 => ?_)
  subst hXl
  have hlm := hCl.2.1
  have hd8 := hCl.2.2.1
  have hd2 : 1 ≤ d2 := Nat.le_trans (by decide) hd8
  have hLa := hCl.2.2.2
  have hd1 : 1 ≤ d2 + 1 := Nat.le_add_left _ _
  have hC9 := hCl
  replace hCl := hCl.1
  have hini : True := trivial
  unfold wb_X0_has at hw
  refine GK.sub (lv' := [(0, .int x0), (1, .int x1)]) [0, 1] (by simp only [lv_args_i, lv_args_r, lv_args_a, lv_args_l, lv_args_f, lv_args_0]; rfl) ?_
  refine gk_iload_n (pc := 0) C.1 0 dX0_has_0 rfl rfl ?_
  refine gk_iload_n (pc := 1) C.1 1 dX0_has_1 rfl rfl ?_
  refine gk_ishr (pc := 2) C.1 dX0_has_2 ?_
  refine gk_iconst (pc := 3) (v := 1) C.1 dX0_has_3 (by decide) ?_
  refine gk_iand (pc := 4) C.1 dX0_has_4 ?_
  refine gk_iconst (pc := 5) (v := 1) C.1 dX0_has_5 (by decide) ?_
  refine gk_icmp_ne (pc := 6) (tgt := 13) C.1 dX0_has_6 (by decide) (fun c_1 => ?_) (fun c_1 => ?_)
  · replace hw := hw.1 c_1
    refine gk_iconst (pc := 13) (v := 0) C.1 dX0_has_13 (by decide) ?_
    exact gh_zret (pc := 14) C S0 hret dX0_has_14 bz0 hw
  · replace hw := hw.2 c_1
    refine gk_iconst (pc := 9) (v := 1) C.1 dX0_has_9 (by decide) ?_
    refine gk_goto (pc := 10) (tgt := 14) C.1 dX0_has_10 (by decide) ?_
    exact gh_zret (pc := 14) C S0 hret dX0_has_14 bz1 hw
/-! 75: GathersAllFaults.hurt(I)V -/
def wb_X0_hurt_96 (cl : CT) (lm : Nat × Nat) (Q : QT) (E : ET) (s0 : Option Nat) (s1 : Int32) (s2 : Nat) (s3 : Int32) (s4 : Option Nat) (h : HS) : Prop := dp_GathersAllFaults_swap cl s2 [.int s3, va_rf s4] h (gR (fun r_2 h_1 => ∃ a_5 : Nat, s0 = some a_5 ∧ (hT h_1 a_5 = 114 ∧ (vp_in s1 (hN h_1 a_5) ∧ (as_X1 h_1 r_2 ∧ (∀ h_6 : HS, h_6 = sB h_1 a_5 s1.toNatClampNeg r_2 → (Q none h_6))))))) E
theorem wk_X0_hurt_96 {X : Ev} {G : GG} {cl : CT} {lm : Nat × Nat} {Q : QT} {E : ET} {h0 : HS} {d2 : Nat} (C : HC X G RX0 cX0_hurt (d2 + 1)) (hCl : CallsOK (ev_l X) G d2 cl ∧ hLm G lm ∧ 8 ≤ d2 ∧ LamsOK (ev_l X) G d2 cl) (S0 : HS0 X h0) (hret : (ev_h X).sig.returnType = (Option.none : Option Jvm.ClassFile.FieldType)) (hXn : ev_n X = 3) (hini : True) (hTb : (ev_c X).exceptionTable.toList = []) : ∀ (s0 : Option Nat) (s1 : Int32) (s2 : Nat) (s3 : Int32) (s4 : Option Nat) (h : HS), wb_X0_hurt_96 cl lm Q E s0 s1 s2 s3 s4 h → GH X G h (hQ X G h0 Q E) 96 [] [va_rf s4, .int s3, .ref s2, .int s1, va_rf s0] := by
  have hlm := hCl.2.1
  have hd8 := hCl.2.2.1
  have hd2 : 1 ≤ d2 := Nat.le_trans (by decide) hd8
  have hLa := hCl.2.2.2
  have hd1 : 1 ≤ d2 + 1 := Nat.le_add_left _ _
  have hC9 := hCl
  replace hCl := hCl.1
  intro s0 s1 s2 s3 s4 h hw
  unfold wb_X0_hurt_96 at hw
  refine gc_X0_218 (pc := 96) (As := [.int s3, va_rf s4]) (rest := [.int s1, va_rf s0]) C hCl (Nat.le_refl _) hw rfl rfl (by simp [va_rf_S, va_rf_cat, cat_i, cat_a, cat_l, cat_f, fin4_0, fin4_1, fin4_2, fin4_3]) dX0_hurt_96 (fun v9 h_1 hp => ?_) (fun q_3 h_4 hw ht9 => ?_)
  rotate_left
  · exact gx_out C S0 (by rw [hTb]; decide) ht9 hw
  clear hw
  obtain ⟨r_2, rfl, hw⟩ := hp
  refine GK.at (p2 := 99) rfl ?_
  obtain ⟨a_5, rfl, hw⟩ := hw
  obtain ⟨ht, hi, hs, hw⟩ := hw
  refine gh_aast (pc := 99) (r := r_2) (t0 := 6) (E := "GathersAllFaults$Value") C ht (by decide) (by decide) rfl (as_X1_ok hs) hi dX0_hurt_99 ?_
  obtain ⟨h_6, eh_6⟩ : ∃ z : HS, z = sB h_1 a_5 s1.toNatClampNeg r_2 := ⟨_, rfl⟩
  rw [← eh_6]
  replace hw := hw h_6 eh_6
  exact gh_vret (pc := 100) C S0 hret dX0_hurt_100 hw
def wb_X0_hurt_64 (cl : CT) (lm : Nat × Nat) (Q : QT) (E : ET) (x0 : Nat) (x1 : Int32) (x2 : Int32) (s0 : Option Nat) (s1 : Int32) (h : HS) : Prop := ∃ a_1 : Nat, s0 = some a_1 ∧ ((hT h a_1 = 2) ∧ (∀ h_2 : HS, h_2 = sI h 17 a_1 s1 → ((hT h_2 x0 = 1) ∧ (∀ r_3 : Option Nat, r_3 = hR h_2 15 x0 → ((hT h_2 x0 = 1) ∧ (∀ r_4 : Option Nat, r_4 = hR h_2 14 x0 → (∃ a_5 : Nat, r_4 = some a_5 ∧ (hT h_2 a_5 = 101 ∧ (vp_in x1 (hN h_2 a_5) ∧ (((x2 = 0 → ((hT h_2 x0 = 1) ∧ (∀ r_7 : Option Nat, r_7 = hR h_2 16 x0 → (∃ a_8 : Nat, r_7 = some a_8 ∧ (hT h_2 a_8 = 115 ∧ (vp_in x1 (hN h_2 a_8) ∧ (∀ r_9 : Option Nat, r_9 = hB h_2 a_8 x1.toNatClampNeg → (wb_X0_hurt_96 cl lm Q E r_3 x1 x0 (hA h_2 a_5 x1.toNatClampNeg) r_9 h_2)))))))) ∧ (¬ x2 = 0 → ((hT h_2 x0 = 1) ∧ (∀ r_10 : Option Nat, r_10 = hR h_2 11 x0 → (wb_X0_hurt_96 cl lm Q E r_3 x1 x0 (hA h_2 a_5 x1.toNatClampNeg) r_10 h_2)))))))))))))))
theorem wk_X0_hurt_64 {X : Ev} {G : GG} {cl : CT} {lm : Nat × Nat} {Q : QT} {E : ET} {h0 : HS} {d2 : Nat} (C : HC X G RX0 cX0_hurt (d2 + 1)) (hCl : CallsOK (ev_l X) G d2 cl ∧ hLm G lm ∧ 8 ≤ d2 ∧ LamsOK (ev_l X) G d2 cl) (S0 : HS0 X h0) (hret : (ev_h X).sig.returnType = (Option.none : Option Jvm.ClassFile.FieldType)) (hXn : ev_n X = 3) (hini : True) (hTb : (ev_c X).exceptionTable.toList = []) : ∀ (x0 : Nat) (x1 : Int32) (x2 : Int32) (s0 : Option Nat) (s1 : Int32) (h : HS), wb_X0_hurt_64 cl lm Q E x0 x1 x2 s0 s1 h → GH X G h (hQ X G h0 Q E) 64 [(0, .ref x0), (1, .int x1), (2, .int x2)] [.int s1, va_rf s0] := by
  have hlm := hCl.2.1
  have hd8 := hCl.2.2.1
  have hd2 : 1 ≤ d2 := Nat.le_trans (by decide) hd8
  have hLa := hCl.2.2.2
  have hd1 : 1 ≤ d2 + 1 := Nat.le_add_left _ _
  have hC9 := hCl
  replace hCl := hCl.1
  intro x0 x1 x2 s0 s1 h hw
  unfold wb_X0_hurt_64 at hw
  obtain ⟨a_1, rfl, hw⟩ := hw
  obtain ⟨ht, hw⟩ := hw
  refine gfp_X0_50 (pc := 64) C ht dX0_hurt_64 (fun h_2 eh_2 => ?_)
  replace hw := hw h_2 eh_2
  refine gk_aload_n (pc := 67) C.1 0 dX0_hurt_67 rfl rfl ?_
  obtain ⟨ht, hw⟩ := hw
  refine gf_X0_103 (pc := 68) C ht dX0_hurt_68 (fun r_3 er_3 => ?_)
  replace hw := hw r_3 er_3
  refine gk_iload_n (pc := 71) C.1 1 dX0_hurt_71 rfl rfl ?_
  refine gk_aload_n (pc := 72) C.1 0 dX0_hurt_72 rfl rfl ?_
  refine gk_aload_n (pc := 73) C.1 0 dX0_hurt_73 rfl rfl ?_
  obtain ⟨ht, hw⟩ := hw
  refine gf_X0_100 (pc := 74) C ht dX0_hurt_74 (fun r_4 er_4 => ?_)
  replace hw := hw r_4 er_4
  refine gk_iload_n (pc := 77) C.1 1 dX0_hurt_77 rfl rfl ?_
  obtain ⟨a_5, rfl, hw⟩ := hw
  obtain ⟨ht, hi, hw⟩ := hw
  refine gh_iald (pc := 78) C ht hi dX0_hurt_78 ?_
  refine gk_iload_n (pc := 79) C.1 2 dX0_hurt_79 rfl rfl ?_
  refine gk_if_eq (pc := 80) (tgt := 90) C.1 dX0_hurt_80 (by decide) (fun c_6 => ?_) (fun c_6 => ?_)
  · replace hw := hw.1 c_6
    refine gk_aload_n (pc := 90) C.1 0 dX0_hurt_90 rfl rfl ?_
    obtain ⟨ht, hw⟩ := hw
    refine gf_X0_107 (pc := 91) C ht dX0_hurt_91 (fun r_7 er_7 => ?_)
    replace hw := hw r_7 er_7
    refine gk_iload_n (pc := 94) C.1 1 dX0_hurt_94 rfl rfl ?_
    obtain ⟨a_8, rfl, hw⟩ := hw
    obtain ⟨ht, hi, hw⟩ := hw
    refine gh_aald (pc := 95) (t0 := 7) (E := "GathersAllFaults$Num") C ht (by decide) (by decide) rfl hi dX0_hurt_95 ?_
    obtain ⟨r_9, er_9⟩ : ∃ z : Option Nat, z = hB h_2 a_8 x1.toNatClampNeg := ⟨_, rfl⟩
    rw [← er_9]
    replace hw := hw r_9 er_9
    refine GK.sub (lv' := []) [] rfl ?_
    exact wk_X0_hurt_96 C hC9 S0 hret hXn hini hTb  _ _ _ _ _ _ hw
  · replace hw := hw.2 c_6
    refine gk_aload_n (pc := 83) C.1 0 dX0_hurt_83 rfl rfl ?_
    obtain ⟨ht, hw⟩ := hw
    refine gf_X0_96 (pc := 84) C ht dX0_hurt_84 (fun r_10 er_10 => ?_)
    replace hw := hw r_10 er_10
    refine gk_goto (pc := 87) (tgt := 96) C.1 dX0_hurt_87 (by decide) ?_
    refine GK.sub (lv' := []) [] rfl ?_
    exact wk_X0_hurt_96 C hC9 S0 hret hXn hini hTb  _ _ _ _ _ _ hw
def wb_X0_hurt_43 (cl : CT) (lm : Nat × Nat) (Q : QT) (E : ET) (x0 : Nat) (x1 : Int32) (s0 : Int32) (h : HS) : Prop := (hT h x0 = 1) ∧ (∀ r_1 : Option Nat, r_1 = hR h 16 x0 → (∃ a_2 : Nat, r_1 = some a_2 ∧ (hT h a_2 = 115 ∧ (vp_in x1 (hN h a_2) ∧ (∀ r_3 : Option Nat, r_3 = hB h a_2 x1.toNatClampNeg → (((s0 = 0 → (dp_GathersAllFaults_drawn cl x0 [.int 100] h (gI (fun r_6 h_5 => wb_X0_hurt_64 cl lm Q E x0 x1 s0 r_3 r_6 h_5)) E)) ∧ (¬ s0 = 0 → (wb_X0_hurt_64 cl lm Q E x0 x1 s0 r_3 0 h)))))))))
theorem wk_X0_hurt_43 {X : Ev} {G : GG} {cl : CT} {lm : Nat × Nat} {Q : QT} {E : ET} {h0 : HS} {d2 : Nat} (C : HC X G RX0 cX0_hurt (d2 + 1)) (hCl : CallsOK (ev_l X) G d2 cl ∧ hLm G lm ∧ 8 ≤ d2 ∧ LamsOK (ev_l X) G d2 cl) (S0 : HS0 X h0) (hret : (ev_h X).sig.returnType = (Option.none : Option Jvm.ClassFile.FieldType)) (hXn : ev_n X = 3) (hini : True) (hTb : (ev_c X).exceptionTable.toList = []) : ∀ (x0 : Nat) (x1 : Int32) (s0 : Int32) (h : HS), wb_X0_hurt_43 cl lm Q E x0 x1 s0 h → GH X G h (hQ X G h0 Q E) 43 [(0, .ref x0), (1, .int x1)] [.int s0] := by
  have hlm := hCl.2.1
  have hd8 := hCl.2.2.1
  have hd2 : 1 ≤ d2 := Nat.le_trans (by decide) hd8
  have hLa := hCl.2.2.2
  have hd1 : 1 ≤ d2 + 1 := Nat.le_add_left _ _
  have hC9 := hCl
  replace hCl := hCl.1
  intro x0 x1 s0 h hw
  unfold wb_X0_hurt_43 at hw
  refine gk_istore_n (pc := 43) (lv' := [(2, Value.int s0), (0, Value.ref x0), (1, Value.int x1)]) C.1 dX0_hurt_43 rfl (by rw [hXn]; decide) (by first | rfl | simp [va_rf_S, va_rf_cat, cat_i, cat_a, cat_l, cat_f, fin4_0, fin4_1, fin4_2, fin4_3]) ?_
  refine gk_aload_n (pc := 44) C.1 1 dX0_hurt_44 rfl rfl ?_
  obtain ⟨ht, hw⟩ := hw
  refine gf_X0_107 (pc := 45) C ht dX0_hurt_45 (fun r_1 er_1 => ?_)
  replace hw := hw r_1 er_1
  refine gk_iload_n (pc := 48) C.1 2 dX0_hurt_48 rfl rfl ?_
  obtain ⟨a_2, rfl, hw⟩ := hw
  obtain ⟨ht, hi, hw⟩ := hw
  refine gh_aald (pc := 49) (t0 := 7) (E := "GathersAllFaults$Num") C ht (by decide) (by decide) rfl hi dX0_hurt_49 ?_
  obtain ⟨r_3, er_3⟩ : ∃ z : Option Nat, z = hB h a_2 x1.toNatClampNeg := ⟨_, rfl⟩
  rw [← er_3]
  replace hw := hw r_3 er_3
  refine gk_iload_n (pc := 50) C.1 0 dX0_hurt_50 rfl rfl ?_
  refine gk_if_eq (pc := 51) (tgt := 58) C.1 dX0_hurt_51 (by decide) (fun c_4 => ?_) (fun c_4 => ?_)
  · replace hw := hw.1 c_4
    refine gk_aload_n (pc := 58) C.1 1 dX0_hurt_58 rfl rfl ?_
    refine gk_bipush (pc := 59) (v := 100) C.1 dX0_hurt_59 (by decide) ?_
    refine gc_X0_326 (pc := 61) (As := [.int 100]) (rest := [va_rf r_3]) C hCl (Nat.le_refl _) hw rfl rfl (by simp [va_rf_S, va_rf_cat, cat_i, cat_a, cat_l, cat_f, fin4_0, fin4_1, fin4_2, fin4_3]) dX0_hurt_61 (fun v9 h_5 hp => ?_) (fun q_7 h_8 hw ht9 => ?_)
    rotate_left
    · exact gx_out C S0 (by rw [hTb]; decide) ht9 hw
    clear hw
    obtain ⟨r_6, rfl, hw⟩ := hp
    refine GK.at (p2 := 64) rfl ?_
    refine GK.sub (lv' := [(0, .ref x0), (1, .int x1), (2, .int s0)]) [1, 2, 0] rfl ?_
    exact wk_X0_hurt_64 C hC9 S0 hret hXn hini hTb  _ _ _ _ _ _ hw
  · replace hw := hw.2 c_4
    refine gk_iconst (pc := 54) (v := 0) C.1 dX0_hurt_54 (by decide) ?_
    refine gk_goto (pc := 55) (tgt := 64) C.1 dX0_hurt_55 (by decide) ?_
    refine GK.sub (lv' := [(0, .ref x0), (1, .int x1), (2, .int s0)]) [1, 2, 0] rfl ?_
    exact wk_X0_hurt_64 C hC9 S0 hret hXn hini hTb  _ _ _ _ _ _ hw
def wb_X0_hurt (cl : CT) (lm : Nat × Nat) (Q : QT) (E : ET) (x0 : Nat) (x1 : Int32) (h : HS) : Prop := (hT h x0 = 1) ∧ (∀ r_1 : Option Nat, r_1 = hR h 0 x0 → (∃ a_2 : Nat, r_1 = some a_2 ∧ (dp_Value_size cl a_2 [] h (gI (fun r_4 h_3 => dp_GathersAllFaults_drawn cl x0 [.int r_4] h_3 (gI (fun r_8 h_7 => (hT h_7 x0 = 1) ∧ (∀ h_11 : HS, h_11 = sI h_7 13 x0 r_8 → ((hT h_11 x0 = 1) ∧ (∀ r_12 : Option Nat, r_12 = hR h_11 14 x0 → ((hT h_11 x0 = 1) ∧ (∀ r_13 : Option Nat, r_13 = hR h_11 0 x0 → (dp_GathersAllFaults_pathIn cl x0 [va_rf r_13, .int 0] h_11 (gI (fun r_15 h_14 => ∃ a_18 : Nat, r_12 = some a_18 ∧ (hT h_14 a_18 = 101 ∧ (vp_in x1 (hN h_14 a_18) ∧ (∀ h_19 : HS, h_19 = sA h_14 a_18 x1.toNatClampNeg r_15 → (dp_GathersAllFaults_drawn cl x0 [.int 4] h_19 (gI (fun r_21 h_20 => ((¬ r_21 = 0 → (wb_X0_hurt_43 cl lm Q E x0 x1 0 h_20)) ∧ (r_21 = 0 → (wb_X0_hurt_43 cl lm Q E x0 x1 1 h_20))))) E)))))) E)))))))) E)) E)))
theorem wx_X0_hurt {l : Launch} (hst : l.stackTraces = false) {G : GG} {cl : CT} {lm : Nat × Nat} {Q : QT} {E : ET} {d2 : Nat} (hCl : CallsOK l G d2 cl ∧ hLm G lm ∧ 8 ≤ d2 ∧ LamsOK l G d2 cl) {x0 : Nat} {x1 : Int32} {h : HS} (hw : wb_X0_hurt cl lm Q E x0 x1 h) : HMet l G yX0_hurt (ws_ yX0_hurt cX0_hurt 3 ((Option.none : Option Jvm.ClassFile.FieldType))) (d2 + 1) [.ref x0, .int x1] h Q E := by
  refine gh_met (own := RX0) rfl (by decide +kernel) hst (by simp only [lg_sl_i, lg_sl_r, lg_sl_a, lg_sl_2, lg_sl_f, lg_sl_0]; decide) (fun X hXl hXn hret hnm hTb h0 eh C S0 => ?_)
  subst hXl
  have hlm := hCl.2.1
  have hd8 := hCl.2.2.1
  have hd2 : 1 ≤ d2 := Nat.le_trans (by decide) hd8
  have hLa := hCl.2.2.2
  have hd1 : 1 ≤ d2 + 1 := Nat.le_add_left _ _
  have hC9 := hCl
  replace hCl := hCl.1
  have hini : True := trivial
  unfold wb_X0_hurt at hw
  refine GK.sub (lv' := [(0, .ref x0), (1, .int x1)]) [0, 1] (by simp only [lv_args_i, lv_args_r, lv_args_a, lv_args_l, lv_args_f, lv_args_0]; rfl) ?_
  refine gk_aload_n (pc := 0) C.1 0 dX0_hurt_0 rfl rfl ?_
  refine gk_aload_n (pc := 1) C.1 0 dX0_hurt_1 rfl rfl ?_
  refine gk_aload_n (pc := 2) C.1 0 dX0_hurt_2 rfl rfl ?_
  obtain ⟨ht, hw⟩ := hw
  refine gf_X0_66 (pc := 3) C ht dX0_hurt_3 (fun r_1 er_1 => ?_)
  replace hw := hw r_1 er_1
  obtain ⟨a_2, rfl, hw⟩ := hw
  refine gc_X0_54 (pc := 6) (As := []) (rest := [.ref x0, .ref x0]) C hCl (Nat.le_refl _) hw rfl rfl (Nat.le_of_ble_eq_true rfl) dX0_hurt_6 (fun v9 h_3 hp => ?_) (fun q_5 h_6 hw ht9 => ?_)
  rotate_left
  · exact gx_out C S0 (by rw [hTb]; decide) ht9 hw
  clear hw
  obtain ⟨r_4, rfl, hw⟩ := hp
  refine GK.at (p2 := 9) rfl ?_
  refine gc_X0_326 (pc := 9) (As := [.int r_4]) (rest := [.ref x0]) C hCl (Nat.le_refl _) hw rfl rfl (Nat.le_of_ble_eq_true rfl) dX0_hurt_9 (fun v9 h_7 hp => ?_) (fun q_9 h_10 hw ht9 => ?_)
  rotate_left
  · exact gx_out C S0 (by rw [hTb]; decide) ht9 hw
  clear hw
  obtain ⟨r_8, rfl, hw⟩ := hp
  refine GK.at (p2 := 12) rfl ?_
  obtain ⟨ht, hw⟩ := hw
  refine gfp_X0_314 (pc := 12) C ht dX0_hurt_12 (fun h_11 eh_11 => ?_)
  replace hw := hw h_11 eh_11
  refine gk_aload_n (pc := 15) C.1 0 dX0_hurt_15 rfl rfl ?_
  obtain ⟨ht, hw⟩ := hw
  refine gf_X0_100 (pc := 16) C ht dX0_hurt_16 (fun r_12 er_12 => ?_)
  replace hw := hw r_12 er_12
  refine gk_iload_n (pc := 19) C.1 1 dX0_hurt_19 rfl rfl ?_
  refine gk_aload_n (pc := 20) C.1 0 dX0_hurt_20 rfl rfl ?_
  refine gk_aload_n (pc := 21) C.1 0 dX0_hurt_21 rfl rfl ?_
  obtain ⟨ht, hw⟩ := hw
  refine gf_X0_66 (pc := 22) C ht dX0_hurt_22 (fun r_13 er_13 => ?_)
  replace hw := hw r_13 er_13
  refine gk_iconst (pc := 25) (v := 0) C.1 dX0_hurt_25 (by decide) ?_
  refine gc_X0_321 (pc := 26) (As := [va_rf r_13, .int 0]) (rest := [.int x1, va_rf r_12]) C hCl (Nat.le_refl _) hw rfl rfl (by simp [va_rf_S, va_rf_cat, cat_i, cat_a, cat_l, cat_f, fin4_0, fin4_1, fin4_2, fin4_3]) dX0_hurt_26 (fun v9 h_14 hp => ?_) (fun q_16 h_17 hw ht9 => ?_)
  rotate_left
  · exact gx_out C S0 (by rw [hTb]; decide) ht9 hw
  clear hw
  obtain ⟨r_15, rfl, hw⟩ := hp
  refine GK.at (p2 := 29) rfl ?_
  obtain ⟨a_18, rfl, hw⟩ := hw
  obtain ⟨ht, hi, hw⟩ := hw
  refine gh_iast (pc := 29) C ht hi dX0_hurt_29 ?_
  obtain ⟨h_19, eh_19⟩ : ∃ z : HS, z = sA h_14 a_18 x1.toNatClampNeg r_15 := ⟨_, rfl⟩
  rw [← eh_19]
  replace hw := hw h_19 eh_19
  refine gk_aload_n (pc := 30) C.1 0 dX0_hurt_30 rfl rfl ?_
  refine gk_iconst (pc := 31) (v := 4) C.1 dX0_hurt_31 (by decide) ?_
  refine gc_X0_326 (pc := 32) (As := [.int 4]) (rest := []) C hCl (Nat.le_refl _) hw rfl rfl (Nat.le_of_ble_eq_true rfl) dX0_hurt_32 (fun v9 h_20 hp => ?_) (fun q_22 h_23 hw ht9 => ?_)
  rotate_left
  · exact gx_out C S0 (by rw [hTb]; decide) ht9 hw
  clear hw
  obtain ⟨r_21, rfl, hw⟩ := hp
  refine GK.at (p2 := 35) rfl ?_
  refine gk_if_ne (pc := 35) (tgt := 42) C.1 dX0_hurt_35 (by decide) (fun c_24 => ?_) (fun c_24 => ?_)
  · replace hw := hw.1 c_24
    refine gk_iconst (pc := 42) (v := 0) C.1 dX0_hurt_42 (by decide) ?_
    refine GK.sub (lv' := [(0, .ref x0), (1, .int x1)]) [0, 1] rfl ?_
    exact wk_X0_hurt_43 C hC9 S0 hret hXn hini hTb  _ _ _ _ hw
  · replace hw := hw.2 c_24
    refine gk_iconst (pc := 38) (v := 1) C.1 dX0_hurt_38 (by decide) ?_
    refine gk_goto (pc := 39) (tgt := 43) C.1 dX0_hurt_39 (by decide) ?_
    refine GK.sub (lv' := [(0, .ref x0), (1, .int x1)]) [0, 1] rfl ?_
    exact wk_X0_hurt_43 C hC9 S0 hret hXn hini hTb  _ _ _ _ hw
/-! 76: GathersAllFaults.image()I -/
def wb_X0_image (cl : CT) (lm : Nat × Nat) (Q : QT) (E : ET) (x0 : Nat) (h : HS) : Prop := dp_GathersAllFaults_act cl x0 [.int 26, .int 0, .int 0, .int 0] h (gI (fun r_2 h_1 => Q (some (.int r_2)) h_1)) E
theorem wx_X0_image {l : Launch} (hst : l.stackTraces = false) {G : GG} {cl : CT} {lm : Nat × Nat} {Q : QT} {E : ET} {d2 : Nat} (hCl : CallsOK l G d2 cl ∧ hLm G lm ∧ 8 ≤ d2 ∧ LamsOK l G d2 cl) {x0 : Nat} {h : HS} (hw : wb_X0_image cl lm Q E x0 h) : HMet l G yX0_image (ws_ yX0_image cX0_image 1 ((Option.some Jvm.ClassFile.FieldType.int))) (d2 + 1) [.ref x0] h Q E := by
  refine gh_met (own := RX0) rfl (by decide +kernel) hst (by simp only [lg_sl_i, lg_sl_r, lg_sl_a, lg_sl_2, lg_sl_f, lg_sl_0]; decide) (fun X hXl hXn hret hnm hTb h0 eh C S0 => ?_)
  subst hXl
  have hlm := hCl.2.1
  have hd8 := hCl.2.2.1
  have hd2 : 1 ≤ d2 := Nat.le_trans (by decide) hd8
  have hLa := hCl.2.2.2
  have hd1 : 1 ≤ d2 + 1 := Nat.le_add_left _ _
  have hC9 := hCl
  replace hCl := hCl.1
  have hini : True := trivial
  unfold wb_X0_image at hw
  refine GK.sub (lv' := [(0, .ref x0)]) [0] (by simp only [lv_args_i, lv_args_r, lv_args_a, lv_args_l, lv_args_f, lv_args_0]; rfl) ?_
  refine gk_aload_n (pc := 0) C.1 0 dX0_image_0 rfl rfl ?_
  refine gk_bipush (pc := 1) (v := 26) C.1 dX0_image_1 (by decide) ?_
  refine gk_iconst (pc := 3) (v := 0) C.1 dX0_image_3 (by decide) ?_
  refine gk_iconst (pc := 4) (v := 0) C.1 dX0_image_4 (by decide) ?_
  refine gk_iconst (pc := 5) (v := 0) C.1 dX0_image_5 (by decide) ?_
  refine gc_X0_455 (pc := 6) (As := [.int 26, .int 0, .int 0, .int 0]) (rest := []) C hCl (Nat.le_refl _) hw rfl rfl (Nat.le_of_ble_eq_true rfl) dX0_image_6 (fun v9 h_1 hp => ?_) (fun q_3 h_4 hw ht9 => ?_)
  rotate_left
  · exact gx_out C S0 (by rw [hTb]; decide) ht9 hw
  clear hw
  obtain ⟨r_2, rfl, hw⟩ := hp
  refine GK.at (p2 := 9) rfl ?_
  exact gh_iret (pc := 9) C S0 hret dX0_image_9 hw
/-! 77: GathersAllFaults.imageIt()I -/
def wb_X0_imageIt (cl : CT) (lm : Nat × Nat) (Q : QT) (E : ET) (x0 : Nat) (h : HS) : Prop := (hT h x0 = 1) ∧ (∀ h_1 : HS, h_1 = sI h 4 x0 1 → ((hT h_1 x0 = 1) ∧ (∀ r_2 : Option Nat, r_2 = hR h_1 0 x0 → ((hT h_1 x0 = 1) ∧ (∀ h_3 : HS, h_3 = sR h_1 2 x0 r_2 → ((hT h_3 x0 = 1) ∧ (∀ r_4 : Option Nat, r_4 = hR h_3 1 x0 → ((hT h_3 x0 = 1) ∧ (∀ h_5 : HS, h_5 = sR h_3 3 x0 r_4 → ((hT h_5 x0 = 1) ∧ (∀ r_6 : Option Nat, r_6 = hR h_5 0 x0 → (∃ a_7 : Nat, r_6 = some a_7 ∧ (dp_Value_size cl a_7 [] h_5 (gI (fun r_9 h_8 => Q (some (.int r_9)) h_8)) E)))))))))))))
theorem wx_X0_imageIt {l : Launch} (hst : l.stackTraces = false) {G : GG} {cl : CT} {lm : Nat × Nat} {Q : QT} {E : ET} {d2 : Nat} (hCl : CallsOK l G d2 cl ∧ hLm G lm ∧ 8 ≤ d2 ∧ LamsOK l G d2 cl) {x0 : Nat} {h : HS} (hw : wb_X0_imageIt cl lm Q E x0 h) : HMet l G yX0_imageIt (ws_ yX0_imageIt cX0_imageIt 1 ((Option.some Jvm.ClassFile.FieldType.int))) (d2 + 1) [.ref x0] h Q E := by
  refine gh_met (own := RX0) rfl (by decide +kernel) hst (by simp only [lg_sl_i, lg_sl_r, lg_sl_a, lg_sl_2, lg_sl_f, lg_sl_0]; decide) (fun X hXl hXn hret hnm hTb h0 eh C S0 => ?_)
  subst hXl
  have hlm := hCl.2.1
  have hd8 := hCl.2.2.1
  have hd2 : 1 ≤ d2 := Nat.le_trans (by decide) hd8
  have hLa := hCl.2.2.2
  have hd1 : 1 ≤ d2 + 1 := Nat.le_add_left _ _
  have hC9 := hCl
  replace hCl := hCl.1
  have hini : True := trivial
  unfold wb_X0_imageIt at hw
  refine GK.sub (lv' := [(0, .ref x0)]) [0] (by simp only [lv_args_i, lv_args_r, lv_args_a, lv_args_l, lv_args_f, lv_args_0]; rfl) ?_
  refine gk_aload_n (pc := 0) C.1 0 dX0_imageIt_0 rfl rfl ?_
  refine gk_iconst (pc := 1) (v := 1) C.1 dX0_imageIt_1 (by decide) ?_
  obtain ⟨ht, hw⟩ := hw
  refine gfp_X0_396 (pc := 2) C bz1 ht dX0_imageIt_2 (fun h_1 eh_1 => ?_)
  replace hw := hw h_1 eh_1
  refine gk_aload_n (pc := 5) C.1 0 dX0_imageIt_5 rfl rfl ?_
  refine gk_aload_n (pc := 6) C.1 0 dX0_imageIt_6 rfl rfl ?_
  obtain ⟨ht, hw⟩ := hw
  refine gf_X0_66 (pc := 7) C ht dX0_imageIt_7 (fun r_2 er_2 => ?_)
  replace hw := hw r_2 er_2
  obtain ⟨ht, hw⟩ := hw
  refine gfp_X0_400 (pc := 10) (r := r_2) C ht dX0_imageIt_10 (fun h_3 eh_3 => ?_)
  replace hw := hw h_3 eh_3
  refine gk_aload_n (pc := 13) C.1 0 dX0_imageIt_13 rfl rfl ?_
  refine gk_aload_n (pc := 14) C.1 0 dX0_imageIt_14 rfl rfl ?_
  obtain ⟨ht, hw⟩ := hw
  refine gf_X0_73 (pc := 15) C ht dX0_imageIt_15 (fun r_4 er_4 => ?_)
  replace hw := hw r_4 er_4
  obtain ⟨ht, hw⟩ := hw
  refine gfp_X0_403 (pc := 18) (r := r_4) C ht dX0_imageIt_18 (fun h_5 eh_5 => ?_)
  replace hw := hw h_5 eh_5
  refine gk_aload_n (pc := 21) C.1 0 dX0_imageIt_21 rfl rfl ?_
  obtain ⟨ht, hw⟩ := hw
  refine gf_X0_66 (pc := 22) C ht dX0_imageIt_22 (fun r_6 er_6 => ?_)
  replace hw := hw r_6 er_6
  obtain ⟨a_7, rfl, hw⟩ := hw
  refine gc_X0_54 (pc := 25) (As := []) (rest := []) C hCl (Nat.le_refl _) hw rfl rfl (Nat.le_of_ble_eq_true rfl) dX0_imageIt_25 (fun v9 h_8 hp => ?_) (fun q_10 h_11 hw ht9 => ?_)
  rotate_left
  · exact gx_out C S0 (by rw [hTb]; decide) ht9 hw
  clear hw
  obtain ⟨r_9, rfl, hw⟩ := hp
  refine GK.at (p2 := 28) rfl ?_
  exact gh_iret (pc := 28) C S0 hret dX0_imageIt_28 hw
/-! 78: GathersAllFaults.in(JJJ)Z -/
def wb_X0_in (cl : CT) (lm : Nat × Nat) (Q : QT) (E : ET) (x0 : Int64) (x2 : Int64) (x4 : Int64) (h : HS) : Prop := (((lg_cmp x0 x2) < 0 → (Q (some (.int 0)) h)) ∧ (¬ (lg_cmp x0 x2) < 0 → (((0 < (lg_cmp x0 x4) → (Q (some (.int 0)) h)) ∧ (¬ 0 < (lg_cmp x0 x4) → (Q (some (.int 1)) h))))))
theorem wx_X0_in {l : Launch} (hst : l.stackTraces = false) {G : GG} {cl : CT} {lm : Nat × Nat} {Q : QT} {E : ET} {d2 : Nat} (hCl : CallsOK l G d2 cl ∧ hLm G lm ∧ 8 ≤ d2 ∧ LamsOK l G d2 cl) {x0 : Int64} {x2 : Int64} {x4 : Int64} {h : HS} (hw : wb_X0_in cl lm Q E x0 x2 x4 h) : HMet l G yX0_in (ws_ yX0_in cX0_in 6 ((Option.some Jvm.ClassFile.FieldType.boolean))) (d2 + 1) [.long x0, .long x2, .long x4] h Q E := by
  refine gh_met (own := RX0) rfl (by decide +kernel) hst (by simp only [lg_sl_i, lg_sl_r, lg_sl_a, lg_sl_2, lg_sl_f, lg_sl_0]; decide) (fun X hXl hXn hret hnm hTb h0 eh C S0 => ?_)
  subst hXl
  have hlm := hCl.2.1
  have hd8 := hCl.2.2.1
  have hd2 : 1 ≤ d2 := Nat.le_trans (by decide) hd8
  have hLa := hCl.2.2.2
  have hd1 : 1 ≤ d2 + 1 := Nat.le_add_left _ _
  have hC9 := hCl
  replace hCl := hCl.1
  have hini : True := trivial
  unfold wb_X0_in at hw
  refine GK.sub (lv' := [(0, .long x0), (2, .long x2), (4, .long x4)]) [0, 1, 2] (by simp only [lv_args_i, lv_args_r, lv_args_a, lv_args_l, lv_args_f, lv_args_0]; rfl) ?_
  refine gk_lload_n (pc := 0) C.1 0 dX0_in_0 rfl rfl ?_
  refine gk_lload_n (pc := 1) C.1 1 dX0_in_1 rfl rfl ?_
  refine gk_lcmp (pc := 2) C.1 dX0_in_2 ?_
  refine gk_if_lt (pc := 3) (tgt := 17) C.1 dX0_in_3 (by decide) (fun c_1 => ?_) (fun c_1 => ?_)
  · replace hw := hw.1 c_1
    refine gk_iconst (pc := 17) (v := 0) C.1 dX0_in_17 (by decide) ?_
    exact gh_zret (pc := 18) C S0 hret dX0_in_18 bz0 hw
  · replace hw := hw.2 c_1
    refine gk_lload_n (pc := 6) C.1 0 dX0_in_6 rfl rfl ?_
    refine gk_lload (pc := 7) C.1 2 dX0_in_7 rfl ?_
    refine gk_lcmp (pc := 9) C.1 dX0_in_9 ?_
    refine gk_if_gt (pc := 10) (tgt := 17) C.1 dX0_in_10 (by decide) (fun c_2 => ?_) (fun c_2 => ?_)
    · replace hw := hw.1 c_2
      refine gk_iconst (pc := 17) (v := 0) C.1 dX0_in_17 (by decide) ?_
      exact gh_zret (pc := 18) C S0 hret dX0_in_18 bz0 hw
    · replace hw := hw.2 c_2
      refine gk_iconst (pc := 13) (v := 1) C.1 dX0_in_13 (by decide) ?_
      refine gk_goto (pc := 14) (tgt := 18) C.1 dX0_in_14 (by decide) ?_
      exact gh_zret (pc := 18) C S0 hret dX0_in_18 bz1 hw
/-! 79: GathersAllFaults.<init>()V -/
def wb_X0_init (cl : CT) (lm : Nat × Nat) (Q : QT) (E : ET) (x0 : Nat) (h : HS) : Prop := hZ h + 1 ≤ lm.1 ∧ (hL h + 1 ≤ lm.2 ∧ (∀ (a_2 : Nat) (h_1 : HS), a_2 = hZ h → h_1 = hNew h 2 0 1 → (cl 148 (.ref a_2 :: [.int 0]) h_1 (gV (fun h_3 => (hT h_3 x0 = 1) ∧ (∀ h_6 : HS, h_6 = sR h_3 0 x0 (some a_2) → (hZ h_6 + 1 ≤ lm.1 ∧ (hL h_6 + 3 ≤ lm.2 ∧ (∀ (a_8 : Nat) (h_7 : HS), a_8 = hZ h_6 → h_7 = hNew h_6 11 0 3 → (cl 157 (.ref a_8 :: []) h_7 (gV (fun h_9 => (hT h_9 x0 = 1) ∧ (∀ h_12 : HS, h_12 = sR h_9 1 x0 (some a_8) → (¬ (32 : Int32) < 0 ∧ ((32 : Int32).toNatClampNeg * 1 ≤ 536870912 ∧ (hZ h_12 + 1 ≤ lm.1 ∧ (hL h_12 + (32 : Int32).toNatClampNeg ≤ lm.2 ∧ (∀ (a_14 : Nat) (h_13 : HS), a_14 = hZ h_12 → h_13 = hNew h_12 102 (32 : Int32).toNatClampNeg (32 : Int32).toNatClampNeg → ((hT h_13 x0 = 1) ∧ (∀ h_15 : HS, h_15 = sR h_13 5 x0 (some a_14) → (¬ (96 : Int32) < 0 ∧ ((96 : Int32).toNatClampNeg * 2 ≤ 536870912 ∧ (hZ h_15 + 1 ≤ lm.1 ∧ (hL h_15 + (96 : Int32).toNatClampNeg ≤ lm.2 ∧ (∀ (a_17 : Nat) (h_16 : HS), a_17 = hZ h_15 → h_16 = hNew h_15 103 (96 : Int32).toNatClampNeg (96 : Int32).toNatClampNeg → ((hT h_16 x0 = 1) ∧ (∀ h_18 : HS, h_18 = sR h_16 7 x0 (some a_17) → (¬ (7 : Int32) < 0 ∧ ((7 : Int32).toNatClampNeg * 4 ≤ 536870912 ∧ (hZ h_18 + 1 ≤ lm.1 ∧ (hL h_18 + (7 : Int32).toNatClampNeg ≤ lm.2 ∧ (∀ (a_20 : Nat) (h_19 : HS), a_20 = hZ h_18 → h_19 = hNew h_18 101 (7 : Int32).toNatClampNeg (7 : Int32).toNatClampNeg → ((hT h_19 x0 = 1) ∧ (∀ h_21 : HS, h_21 = sR h_19 9 x0 (some a_20) → (hZ h_21 + 1 ≤ lm.1 ∧ (hL h_21 + 1 ≤ lm.2 ∧ (∀ (a_23 : Nat) (h_22 : HS), a_23 = hZ h_21 → h_22 = hNew h_21 2 0 1 → (cl 148 (.ref a_23 :: [.int 0]) h_22 (gV (fun h_24 => (hT h_24 x0 = 1) ∧ (∀ h_27 : HS, h_27 = sR h_24 10 x0 (some a_23) → (hZ h_27 + 1 ≤ lm.1 ∧ (hL h_27 + 0 ≤ lm.2 ∧ (∀ (a_29 : Nat) (h_28 : HS), a_29 = hZ h_27 → h_28 = hNew h_27 3 0 0 → (cl 167 (.ref a_29 :: []) h_28 (gV (fun h_30 => (hT h_30 x0 = 1) ∧ (∀ h_33 : HS, h_33 = sR h_30 11 x0 (some a_29) → (¬ (4 : Int32) < 0 ∧ ((4 : Int32).toNatClampNeg * 4 ≤ 536870912 ∧ (hZ h_33 + 1 ≤ lm.1 ∧ (hL h_33 + (4 : Int32).toNatClampNeg ≤ lm.2 ∧ (∀ (a_35 : Nat) (h_34 : HS), a_35 = hZ h_33 → h_34 = hNew h_33 101 (4 : Int32).toNatClampNeg (4 : Int32).toNatClampNeg → ((hT h_34 x0 = 1) ∧ (∀ h_36 : HS, h_36 = sR h_34 14 x0 (some a_35) → (¬ (4 : Int32) < 0 ∧ ((4 : Int32).toNatClampNeg * 4 ≤ 536870912 ∧ (hZ h_36 + 1 ≤ lm.1 ∧ (hL h_36 + (4 : Int32).toNatClampNeg ≤ lm.2 ∧ (∀ (a_38 : Nat) (h_37 : HS), a_38 = hZ h_36 → h_37 = hNew h_36 114 (4 : Int32).toNatClampNeg (4 : Int32).toNatClampNeg → ((hT h_37 x0 = 1) ∧ (∀ h_39 : HS, h_39 = sR h_37 15 x0 (some a_38) → (¬ (4 : Int32) < 0 ∧ ((4 : Int32).toNatClampNeg * 4 ≤ 536870912 ∧ (hZ h_39 + 1 ≤ lm.1 ∧ (hL h_39 + (4 : Int32).toNatClampNeg ≤ lm.2 ∧ (∀ (a_41 : Nat) (h_40 : HS), a_41 = hZ h_39 → h_40 = hNew h_39 115 (4 : Int32).toNatClampNeg (4 : Int32).toNatClampNeg → (hZ h_40 + 1 ≤ lm.1 ∧ (hL h_40 + 1 ≤ lm.2 ∧ (∀ (a_43 : Nat) (h_42 : HS), a_43 = hZ h_40 → h_42 = hNew h_40 2 0 1 → (cl 148 (.ref a_43 :: [.int 0]) h_42 (gV (fun h_44 => hT h_44 a_41 = 115 ∧ (vp_in 0 (hN h_44 a_41) ∧ (as_X2 h_44 (some a_43) ∧ (∀ h_47 : HS, h_47 = sB h_44 a_41 (0 : Int32).toNatClampNeg (some a_43) → (hZ h_47 + 1 ≤ lm.1 ∧ (hL h_47 + 1 ≤ lm.2 ∧ (∀ (a_49 : Nat) (h_48 : HS), a_49 = hZ h_47 → h_48 = hNew h_47 2 0 1 → (cl 148 (.ref a_49 :: [.int 0]) h_48 (gV (fun h_50 => hT h_50 a_41 = 115 ∧ (vp_in 1 (hN h_50 a_41) ∧ (as_X2 h_50 (some a_49) ∧ (∀ h_53 : HS, h_53 = sB h_50 a_41 (1 : Int32).toNatClampNeg (some a_49) → (hZ h_53 + 1 ≤ lm.1 ∧ (hL h_53 + 1 ≤ lm.2 ∧ (∀ (a_55 : Nat) (h_54 : HS), a_55 = hZ h_53 → h_54 = hNew h_53 2 0 1 → (cl 148 (.ref a_55 :: [.int 0]) h_54 (gV (fun h_56 => hT h_56 a_41 = 115 ∧ (vp_in 2 (hN h_56 a_41) ∧ (as_X2 h_56 (some a_55) ∧ (∀ h_59 : HS, h_59 = sB h_56 a_41 (2 : Int32).toNatClampNeg (some a_55) → (hZ h_59 + 1 ≤ lm.1 ∧ (hL h_59 + 1 ≤ lm.2 ∧ (∀ (a_61 : Nat) (h_60 : HS), a_61 = hZ h_59 → h_60 = hNew h_59 2 0 1 → (cl 148 (.ref a_61 :: [.int 0]) h_60 (gV (fun h_62 => hT h_62 a_41 = 115 ∧ (vp_in 3 (hN h_62 a_41) ∧ (as_X2 h_62 (some a_61) ∧ (∀ h_65 : HS, h_65 = sB h_62 a_41 (3 : Int32).toNatClampNeg (some a_61) → ((hT h_65 x0 = 1) ∧ (∀ h_66 : HS, h_66 = sR h_65 16 x0 (some a_41) → (Q none h_66)))))))) E))))))))) E))))))))) E))))))))) E)))))))))))))))))))))))))) E))))))) E)))))))))))))))))))))))))))) E))))))) E)))
theorem wx_X0_init {l : Launch} (hst : l.stackTraces = false) {G : GG} {cl : CT} {lm : Nat × Nat} {Q : QT} {E : ET} {d2 : Nat} (hCl : CallsOK l G d2 cl ∧ hLm G lm ∧ 8 ≤ d2 ∧ LamsOK l G d2 cl) {x0 : Nat} {h : HS} (hw : wb_X0_init cl lm Q E x0 h) : HMet l G yX0_init (ws_ yX0_init cX0_init 1 ((Option.none : Option Jvm.ClassFile.FieldType))) (d2 + 1) [.ref x0] h Q E := by
  refine gh_met (own := RX0) rfl (by decide +kernel) hst (by simp only [lg_sl_i, lg_sl_r, lg_sl_a, lg_sl_2, lg_sl_f, lg_sl_0]; decide) (fun X hXl hXn hret hnm hTb h0 eh C S0 => ?_)
  subst hXl
  have hlm := hCl.2.1
  have hd8 := hCl.2.2.1
  have hd2 : 1 ≤ d2 := Nat.le_trans (by decide) hd8
  have hLa := hCl.2.2.2
  have hd1 : 1 ≤ d2 + 1 := Nat.le_add_left _ _
  have hC9 := hCl
  replace hCl := hCl.1
  have hini : (ev_h X).name = "<init>" := hnm.1
  unfold wb_X0_init at hw
  refine GK.sub (lv' := [(0, .ref x0)]) [0] (by simp only [lv_args_i, lv_args_r, lv_args_a, lv_args_l, lv_args_f, lv_args_0]; rfl) ?_
  refine gk_aload_n (pc := 0) C.1 0 dX0_init_0 rfl rfl ?_
  refine gh_obj (pc := 1) C hd1 q190 (Nat.le_of_ble_eq_true rfl) dX0_init_1 ?_
  refine gk_aload_n (pc := 4) C.1 0 dX0_init_4 rfl rfl ?_
  obtain ⟨hr1, hr2, hw⟩ := hw
  refine gn_X0_48 (pc := 5) C (hlm.1 ▸ hr1) (hlm.2 ▸ hr2) dX0_init_5 (fun h_1 eh_1 => ?_)
  obtain ⟨a_2, ea_2⟩ : ∃ z : Nat, z = hZ h := ⟨_, rfl⟩
  rw [← ea_2]
  replace hw := hw a_2 h_1 ea_2 eh_1
  refine gk_dup (pc := 8) C.1 dX0_init_8 rfl ?_
  refine gk_iconst (pc := 9) (v := 0) C.1 dX0_init_9 (by decide) ?_
  refine gc_X0_65 (pc := 10) (As := [.int 0]) (rest := [.ref a_2, .ref x0]) C hCl (Nat.le_refl _) hw rfl rfl (Nat.le_of_ble_eq_true rfl) dX0_init_10 (fun v9 h_3 hp => ?_) (fun q_4 h_5 hw ht9 => ?_)
  rotate_left
  · exact gx_out C S0 (by rw [hTb]; decide) ht9 hw
  clear hw
  obtain ⟨rfl, hw⟩ := hp
  refine GK.at (p2 := 13) rfl ?_
  obtain ⟨ht, hw⟩ := hw
  refine gfp_X0_66 (pc := 13) (r := (some a_2)) C ht dX0_init_13 (fun h_6 eh_6 => ?_)
  replace hw := hw h_6 eh_6
  refine gk_aload_n (pc := 16) C.1 0 dX0_init_16 rfl rfl ?_
  obtain ⟨hr1, hr2, hw⟩ := hw
  refine gn_X0_70 (pc := 17) C (hlm.1 ▸ hr1) (hlm.2 ▸ hr2) dX0_init_17 (fun h_7 eh_7 => ?_)
  obtain ⟨a_8, ea_8⟩ : ∃ z : Nat, z = hZ h_6 := ⟨_, rfl⟩
  rw [← ea_8]
  replace hw := hw a_8 h_7 ea_8 eh_7
  refine gk_dup (pc := 20) C.1 dX0_init_20 rfl ?_
  refine gc_X0_72 (pc := 21) (As := []) (rest := [.ref a_8, .ref x0]) C hCl (Nat.le_refl _) hw rfl rfl (Nat.le_of_ble_eq_true rfl) dX0_init_21 (fun v9 h_9 hp => ?_) (fun q_10 h_11 hw ht9 => ?_)
  rotate_left
  · exact gx_out C S0 (by rw [hTb]; decide) ht9 hw
  clear hw
  obtain ⟨rfl, hw⟩ := hp
  refine GK.at (p2 := 24) rfl ?_
  obtain ⟨ht, hw⟩ := hw
  refine gfp_X0_73 (pc := 24) (r := (some a_8)) C ht dX0_init_24 (fun h_12 eh_12 => ?_)
  replace hw := hw h_12 eh_12
  refine gk_aload_n (pc := 27) C.1 0 dX0_init_27 rfl rfl ?_
  refine gk_bipush (pc := 28) (v := 32) C.1 dX0_init_28 (by decide) ?_
  obtain ⟨hn0, hby, hr1, hr2, hw⟩ := hw
  refine gh_newa (pc := 30) (atype := .byte) (t := 102) (t0 := 1) (ty := .byte) C ⟨by decide, by decide⟩ rfl rfl (fun _ z => by cases z) rfl q259 hn0 hby (hlm.1 ▸ hr1) (hlm.2 ▸ hr2) dX0_init_30 ?_
  obtain ⟨h_13, eh_13⟩ : ∃ z : HS, z = hNew h_12 102 (32 : Int32).toNatClampNeg (32 : Int32).toNatClampNeg := ⟨_, rfl⟩
  rw [← eh_13]
  obtain ⟨a_14, ea_14⟩ : ∃ z : Nat, z = hZ h_12 := ⟨_, rfl⟩
  rw [← ea_14]
  replace hw := hw a_14 h_13 ea_14 eh_13
  obtain ⟨ht, hw⟩ := hw
  refine gfp_X0_77 (pc := 32) (r := (some a_14)) C hini ht dX0_init_32 (fun h_15 eh_15 => ?_)
  replace hw := hw h_15 eh_15
  refine gk_aload_n (pc := 35) C.1 0 dX0_init_35 rfl rfl ?_
  refine gk_bipush (pc := 36) (v := 96) C.1 dX0_init_36 (by decide) ?_
  obtain ⟨hn0, hby, hr1, hr2, hw⟩ := hw
  refine gh_newa (pc := 38) (atype := .char) (t := 103) (t0 := 2) (ty := .char) C ⟨by decide, by decide⟩ rfl rfl (fun _ z => by cases z) rfl q260 hn0 hby (hlm.1 ▸ hr1) (hlm.2 ▸ hr2) dX0_init_38 ?_
  obtain ⟨h_16, eh_16⟩ : ∃ z : HS, z = hNew h_15 103 (96 : Int32).toNatClampNeg (96 : Int32).toNatClampNeg := ⟨_, rfl⟩
  rw [← eh_16]
  obtain ⟨a_17, ea_17⟩ : ∃ z : Nat, z = hZ h_15 := ⟨_, rfl⟩
  rw [← ea_17]
  replace hw := hw a_17 h_16 ea_17 eh_16
  obtain ⟨ht, hw⟩ := hw
  refine gfp_X0_81 (pc := 40) (r := (some a_17)) C hini ht dX0_init_40 (fun h_18 eh_18 => ?_)
  replace hw := hw h_18 eh_18
  refine gk_aload_n (pc := 43) C.1 0 dX0_init_43 rfl rfl ?_
  refine gk_bipush (pc := 44) (v := 7) C.1 dX0_init_44 (by decide) ?_
  obtain ⟨hn0, hby, hr1, hr2, hw⟩ := hw
  refine gh_newa (pc := 46) (atype := .int) (t := 101) (t0 := 0) (ty := .int) C ⟨by decide, by decide⟩ rfl rfl (fun _ z => by cases z) rfl q261 hn0 hby (hlm.1 ▸ hr1) (hlm.2 ▸ hr2) dX0_init_46 ?_
  obtain ⟨h_19, eh_19⟩ : ∃ z : HS, z = hNew h_18 101 (7 : Int32).toNatClampNeg (7 : Int32).toNatClampNeg := ⟨_, rfl⟩
  rw [← eh_19]
  obtain ⟨a_20, ea_20⟩ : ∃ z : Nat, z = hZ h_18 := ⟨_, rfl⟩
  rw [← ea_20]
  replace hw := hw a_20 h_19 ea_20 eh_19
  obtain ⟨ht, hw⟩ := hw
  refine gfp_X0_85 (pc := 48) (r := (some a_20)) C hini ht dX0_init_48 (fun h_21 eh_21 => ?_)
  replace hw := hw h_21 eh_21
  refine gk_aload_n (pc := 51) C.1 0 dX0_init_51 rfl rfl ?_
  obtain ⟨hr1, hr2, hw⟩ := hw
  refine gn_X0_48 (pc := 52) C (hlm.1 ▸ hr1) (hlm.2 ▸ hr2) dX0_init_52 (fun h_22 eh_22 => ?_)
  obtain ⟨a_23, ea_23⟩ : ∃ z : Nat, z = hZ h_21 := ⟨_, rfl⟩
  rw [← ea_23]
  replace hw := hw a_23 h_22 ea_23 eh_22
  refine gk_dup (pc := 55) C.1 dX0_init_55 rfl ?_
  refine gk_iconst (pc := 56) (v := 0) C.1 dX0_init_56 (by decide) ?_
  refine gc_X0_65 (pc := 57) (As := [.int 0]) (rest := [.ref a_23, .ref x0]) C hCl (Nat.le_refl _) hw rfl rfl (Nat.le_of_ble_eq_true rfl) dX0_init_57 (fun v9 h_24 hp => ?_) (fun q_25 h_26 hw ht9 => ?_)
  rotate_left
  · exact gx_out C S0 (by rw [hTb]; decide) ht9 hw
  clear hw
  obtain ⟨rfl, hw⟩ := hp
  refine GK.at (p2 := 60) rfl ?_
  obtain ⟨ht, hw⟩ := hw
  refine gfp_X0_89 (pc := 60) (r := (some a_23)) C hini ht dX0_init_60 (fun h_27 eh_27 => ?_)
  replace hw := hw h_27 eh_27
  refine gk_aload_n (pc := 63) C.1 0 dX0_init_63 rfl rfl ?_
  obtain ⟨hr1, hr2, hw⟩ := hw
  refine gn_X0_93 (pc := 64) C (hlm.1 ▸ hr1) (hlm.2 ▸ hr2) dX0_init_64 (fun h_28 eh_28 => ?_)
  obtain ⟨a_29, ea_29⟩ : ∃ z : Nat, z = hZ h_27 := ⟨_, rfl⟩
  rw [← ea_29]
  replace hw := hw a_29 h_28 ea_29 eh_28
  refine gk_dup (pc := 67) C.1 dX0_init_67 rfl ?_
  refine gc_X0_95 (pc := 68) (As := []) (rest := [.ref a_29, .ref x0]) C hCl (Nat.le_refl _) hw rfl rfl (Nat.le_of_ble_eq_true rfl) dX0_init_68 (fun v9 h_30 hp => ?_) (fun q_31 h_32 hw ht9 => ?_)
  rotate_left
  · exact gx_out C S0 (by rw [hTb]; decide) ht9 hw
  clear hw
  obtain ⟨rfl, hw⟩ := hp
  refine GK.at (p2 := 71) rfl ?_
  obtain ⟨ht, hw⟩ := hw
  refine gfp_X0_96 (pc := 71) (r := (some a_29)) C hini ht dX0_init_71 (fun h_33 eh_33 => ?_)
  replace hw := hw h_33 eh_33
  refine gk_aload_n (pc := 74) C.1 0 dX0_init_74 rfl rfl ?_
  refine gk_iconst (pc := 75) (v := 4) C.1 dX0_init_75 (by decide) ?_
  obtain ⟨hn0, hby, hr1, hr2, hw⟩ := hw
  refine gh_newa (pc := 76) (atype := .int) (t := 101) (t0 := 0) (ty := .int) C ⟨by decide, by decide⟩ rfl rfl (fun _ z => by cases z) rfl q261 hn0 hby (hlm.1 ▸ hr1) (hlm.2 ▸ hr2) dX0_init_76 ?_
  obtain ⟨h_34, eh_34⟩ : ∃ z : HS, z = hNew h_33 101 (4 : Int32).toNatClampNeg (4 : Int32).toNatClampNeg := ⟨_, rfl⟩
  rw [← eh_34]
  obtain ⟨a_35, ea_35⟩ : ∃ z : Nat, z = hZ h_33 := ⟨_, rfl⟩
  rw [← ea_35]
  replace hw := hw a_35 h_34 ea_35 eh_34
  obtain ⟨ht, hw⟩ := hw
  refine gfp_X0_100 (pc := 78) (r := (some a_35)) C hini ht dX0_init_78 (fun h_36 eh_36 => ?_)
  replace hw := hw h_36 eh_36
  refine gk_aload_n (pc := 81) C.1 0 dX0_init_81 rfl rfl ?_
  refine gk_iconst (pc := 82) (v := 4) C.1 dX0_init_82 (by decide) ?_
  obtain ⟨hn0, hby, hr1, hr2, hw⟩ := hw
  refine gh_anew (pc := 83) (t := 114) (t0 := 6) (E := "GathersAllFaults$Value") C ⟨by decide, by decide⟩ rfl q262 q263 hn0 hby (hlm.1 ▸ hr1) (hlm.2 ▸ hr2) dX0_init_83 ?_
  obtain ⟨h_37, eh_37⟩ : ∃ z : HS, z = hNew h_36 114 (4 : Int32).toNatClampNeg (4 : Int32).toNatClampNeg := ⟨_, rfl⟩
  rw [← eh_37]
  obtain ⟨a_38, ea_38⟩ : ∃ z : Nat, z = hZ h_36 := ⟨_, rfl⟩
  rw [← ea_38]
  replace hw := hw a_38 h_37 ea_38 eh_37
  obtain ⟨ht, hw⟩ := hw
  refine gfp_X0_103 (pc := 86) (r := (some a_38)) C hini ht dX0_init_86 (fun h_39 eh_39 => ?_)
  replace hw := hw h_39 eh_39
  refine gk_aload_n (pc := 89) C.1 0 dX0_init_89 rfl rfl ?_
  refine gk_iconst (pc := 90) (v := 4) C.1 dX0_init_90 (by decide) ?_
  obtain ⟨hn0, hby, hr1, hr2, hw⟩ := hw
  refine gh_anew (pc := 91) (t := 115) (t0 := 7) (E := "GathersAllFaults$Num") C ⟨by decide, by decide⟩ rfl q193 q264 hn0 hby (hlm.1 ▸ hr1) (hlm.2 ▸ hr2) dX0_init_91 ?_
  obtain ⟨h_40, eh_40⟩ : ∃ z : HS, z = hNew h_39 115 (4 : Int32).toNatClampNeg (4 : Int32).toNatClampNeg := ⟨_, rfl⟩
  rw [← eh_40]
  obtain ⟨a_41, ea_41⟩ : ∃ z : Nat, z = hZ h_39 := ⟨_, rfl⟩
  rw [← ea_41]
  replace hw := hw a_41 h_40 ea_41 eh_40
  refine gk_dup (pc := 94) C.1 dX0_init_94 rfl ?_
  refine gk_iconst (pc := 95) (v := 0) C.1 dX0_init_95 (by decide) ?_
  obtain ⟨hr1, hr2, hw⟩ := hw
  refine gn_X0_48 (pc := 96) C (hlm.1 ▸ hr1) (hlm.2 ▸ hr2) dX0_init_96 (fun h_42 eh_42 => ?_)
  obtain ⟨a_43, ea_43⟩ : ∃ z : Nat, z = hZ h_40 := ⟨_, rfl⟩
  rw [← ea_43]
  replace hw := hw a_43 h_42 ea_43 eh_42
  refine gk_dup (pc := 99) C.1 dX0_init_99 rfl ?_
  refine gk_iconst (pc := 100) (v := 0) C.1 dX0_init_100 (by decide) ?_
  refine gc_X0_65 (pc := 101) (As := [.int 0]) (rest := [.ref a_43, .int 0, .ref a_41, .ref a_41, .ref x0]) C hCl (Nat.le_refl _) hw rfl rfl (Nat.le_of_ble_eq_true rfl) dX0_init_101 (fun v9 h_44 hp => ?_) (fun q_45 h_46 hw ht9 => ?_)
  rotate_left
  · exact gx_out C S0 (by rw [hTb]; decide) ht9 hw
  clear hw
  obtain ⟨rfl, hw⟩ := hp
  refine GK.at (p2 := 104) rfl ?_
  obtain ⟨ht, hi, hs, hw⟩ := hw
  refine gh_aast (pc := 104) (r := (some a_43)) (t0 := 7) (E := "GathersAllFaults$Num") C ht (by decide) (by decide) rfl (as_X2_ok hs) hi dX0_init_104 ?_
  obtain ⟨h_47, eh_47⟩ : ∃ z : HS, z = sB h_44 a_41 (0 : Int32).toNatClampNeg (some a_43) := ⟨_, rfl⟩
  rw [← eh_47]
  replace hw := hw h_47 eh_47
  refine gk_dup (pc := 105) C.1 dX0_init_105 rfl ?_
  refine gk_iconst (pc := 106) (v := 1) C.1 dX0_init_106 (by decide) ?_
  obtain ⟨hr1, hr2, hw⟩ := hw
  refine gn_X0_48 (pc := 107) C (hlm.1 ▸ hr1) (hlm.2 ▸ hr2) dX0_init_107 (fun h_48 eh_48 => ?_)
  obtain ⟨a_49, ea_49⟩ : ∃ z : Nat, z = hZ h_47 := ⟨_, rfl⟩
  rw [← ea_49]
  replace hw := hw a_49 h_48 ea_49 eh_48
  refine gk_dup (pc := 110) C.1 dX0_init_110 rfl ?_
  refine gk_iconst (pc := 111) (v := 0) C.1 dX0_init_111 (by decide) ?_
  refine gc_X0_65 (pc := 112) (As := [.int 0]) (rest := [.ref a_49, .int 1, .ref a_41, .ref a_41, .ref x0]) C hCl (Nat.le_refl _) hw rfl rfl (Nat.le_of_ble_eq_true rfl) dX0_init_112 (fun v9 h_50 hp => ?_) (fun q_51 h_52 hw ht9 => ?_)
  rotate_left
  · exact gx_out C S0 (by rw [hTb]; decide) ht9 hw
  clear hw
  obtain ⟨rfl, hw⟩ := hp
  refine GK.at (p2 := 115) rfl ?_
  obtain ⟨ht, hi, hs, hw⟩ := hw
  refine gh_aast (pc := 115) (r := (some a_49)) (t0 := 7) (E := "GathersAllFaults$Num") C ht (by decide) (by decide) rfl (as_X2_ok hs) hi dX0_init_115 ?_
  obtain ⟨h_53, eh_53⟩ : ∃ z : HS, z = sB h_50 a_41 (1 : Int32).toNatClampNeg (some a_49) := ⟨_, rfl⟩
  rw [← eh_53]
  replace hw := hw h_53 eh_53
  refine gk_dup (pc := 116) C.1 dX0_init_116 rfl ?_
  refine gk_iconst (pc := 117) (v := 2) C.1 dX0_init_117 (by decide) ?_
  obtain ⟨hr1, hr2, hw⟩ := hw
  refine gn_X0_48 (pc := 118) C (hlm.1 ▸ hr1) (hlm.2 ▸ hr2) dX0_init_118 (fun h_54 eh_54 => ?_)
  obtain ⟨a_55, ea_55⟩ : ∃ z : Nat, z = hZ h_53 := ⟨_, rfl⟩
  rw [← ea_55]
  replace hw := hw a_55 h_54 ea_55 eh_54
  refine gk_dup (pc := 121) C.1 dX0_init_121 rfl ?_
  refine gk_iconst (pc := 122) (v := 0) C.1 dX0_init_122 (by decide) ?_
  refine gc_X0_65 (pc := 123) (As := [.int 0]) (rest := [.ref a_55, .int 2, .ref a_41, .ref a_41, .ref x0]) C hCl (Nat.le_refl _) hw rfl rfl (Nat.le_of_ble_eq_true rfl) dX0_init_123 (fun v9 h_56 hp => ?_) (fun q_57 h_58 hw ht9 => ?_)
  rotate_left
  · exact gx_out C S0 (by rw [hTb]; decide) ht9 hw
  clear hw
  obtain ⟨rfl, hw⟩ := hp
  refine GK.at (p2 := 126) rfl ?_
  obtain ⟨ht, hi, hs, hw⟩ := hw
  refine gh_aast (pc := 126) (r := (some a_55)) (t0 := 7) (E := "GathersAllFaults$Num") C ht (by decide) (by decide) rfl (as_X2_ok hs) hi dX0_init_126 ?_
  obtain ⟨h_59, eh_59⟩ : ∃ z : HS, z = sB h_56 a_41 (2 : Int32).toNatClampNeg (some a_55) := ⟨_, rfl⟩
  rw [← eh_59]
  replace hw := hw h_59 eh_59
  refine gk_dup (pc := 127) C.1 dX0_init_127 rfl ?_
  refine gk_iconst (pc := 128) (v := 3) C.1 dX0_init_128 (by decide) ?_
  obtain ⟨hr1, hr2, hw⟩ := hw
  refine gn_X0_48 (pc := 129) C (hlm.1 ▸ hr1) (hlm.2 ▸ hr2) dX0_init_129 (fun h_60 eh_60 => ?_)
  obtain ⟨a_61, ea_61⟩ : ∃ z : Nat, z = hZ h_59 := ⟨_, rfl⟩
  rw [← ea_61]
  replace hw := hw a_61 h_60 ea_61 eh_60
  refine gk_dup (pc := 132) C.1 dX0_init_132 rfl ?_
  refine gk_iconst (pc := 133) (v := 0) C.1 dX0_init_133 (by decide) ?_
  refine gc_X0_65 (pc := 134) (As := [.int 0]) (rest := [.ref a_61, .int 3, .ref a_41, .ref a_41, .ref x0]) C hCl (Nat.le_refl _) hw rfl rfl (Nat.le_of_ble_eq_true rfl) dX0_init_134 (fun v9 h_62 hp => ?_) (fun q_63 h_64 hw ht9 => ?_)
  rotate_left
  · exact gx_out C S0 (by rw [hTb]; decide) ht9 hw
  clear hw
  obtain ⟨rfl, hw⟩ := hp
  refine GK.at (p2 := 137) rfl ?_
  obtain ⟨ht, hi, hs, hw⟩ := hw
  refine gh_aast (pc := 137) (r := (some a_61)) (t0 := 7) (E := "GathersAllFaults$Num") C ht (by decide) (by decide) rfl (as_X2_ok hs) hi dX0_init_137 ?_
  obtain ⟨h_65, eh_65⟩ : ∃ z : HS, z = sB h_62 a_41 (3 : Int32).toNatClampNeg (some a_61) := ⟨_, rfl⟩
  rw [← eh_65]
  replace hw := hw h_65 eh_65
  obtain ⟨ht, hw⟩ := hw
  refine gfp_X0_107 (pc := 138) (r := (some a_41)) C hini ht dX0_init_138 (fun h_66 eh_66 => ?_)
  replace hw := hw h_66 eh_66
  exact gh_vret (pc := 141) C S0 hret dX0_init_141 hw
