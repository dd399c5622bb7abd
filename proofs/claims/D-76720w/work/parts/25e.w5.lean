set_option maxRecDepth 100000
/-! 80: GathersAllFaults.isBelow(II)Z -/
def wb_X0_isBelow_2 (cl : CT) (lm : Nat × Nat) (Q : QT) (E : ET) : Nat → Int32 → Int32 → HS → Prop
  | 0 => fun _ _ _ => False
  | n + 1 => fun x1 x2 h => ((x2 ≤ x1 → (((¬ x2 = x1 → (Q (some (.int 0)) h)) ∧ (x2 = x1 → (Q (some (.int 1)) h))))) ∧ (¬ x2 ≤ x1 → (∀ x_3 : Int32, x_3 = x2 / 10 → (wb_X0_isBelow_2 cl lm Q E n x1 x_3 h))))
theorem wk_X0_isBelow_2 {X : Ev} {G : GG} {cl : CT} {lm : Nat × Nat} {Q : QT} {E : ET} {h0 : HS} {d2 : Nat} (C : HC X G RX0 cX0_isBelow (d2 + 1)) (hCl : CallsOK (ev_l X) G d2 cl ∧ hLm G lm ∧ 8 ≤ d2 ∧ LamsOK (ev_l X) G d2 cl) (S0 : HS0 X h0) (hret : (ev_h X).sig.returnType = (Option.some Jvm.ClassFile.FieldType.boolean)) (hXn : ev_n X = 3) (hini : True) (hTb : (ev_c X).exceptionTable.toList = []) : ∀ (n : Nat) (x1 : Int32) (x2 : Int32) (h : HS), wb_X0_isBelow_2 cl lm Q E n x1 x2 h → GH X G h (hQ X G h0 Q E) 2 [(1, .int x1), (2, .int x2)] [] := by
  have hlm := hCl.2.1
  have hd8 := hCl.2.2.1
  have hd2 : 1 ≤ d2 := Nat.le_trans (by decide) hd8
  have hLa := hCl.2.2.2
  have hd1 : 1 ≤ d2 + 1 := Nat.le_add_left _ _
  have hC9 := hCl
  replace hCl := hCl.1
  intro n
  induction n with
  | zero => intro x1 x2 h hw; exact hw.elim
  | succ n ih =>
  intro x1 x2 h hw
  unfold wb_X0_isBelow_2 at hw
  refine gk_iload_n (pc := 2) C.1 1 dX0_isBelow_2 rfl rfl ?_
  refine gk_iload_n (pc := 3) C.1 0 dX0_isBelow_3 rfl rfl ?_
  refine gk_icmp_le (pc := 4) (tgt := 15) C.1 dX0_isBelow_4 (by decide) (fun c_1 => ?_) (fun c_1 => ?_)
  · replace hw := hw.1 c_1
    refine gk_iload_n (pc := 15) C.1 1 dX0_isBelow_15 rfl rfl ?_
    refine gk_iload_n (pc := 16) C.1 0 dX0_isBelow_16 rfl rfl ?_
    refine gk_icmp_ne (pc := 17) (tgt := 24) C.1 dX0_isBelow_17 (by decide) (fun c_2 => ?_) (fun c_2 => ?_)
    · replace hw := hw.1 c_2
      refine gk_iconst (pc := 24) (v := 0) C.1 dX0_isBelow_24 (by decide) ?_
      exact gh_zret (pc := 25) C S0 hret dX0_isBelow_25 bz0 hw
    · replace hw := hw.2 c_2
      refine gk_iconst (pc := 20) (v := 1) C.1 dX0_isBelow_20 (by decide) ?_
      refine gk_goto (pc := 21) (tgt := 25) C.1 dX0_isBelow_21 (by decide) ?_
      exact gh_zret (pc := 25) C S0 hret dX0_isBelow_25 bz1 hw
  · replace hw := hw.2 c_1
    refine gk_iload_n (pc := 7) C.1 1 dX0_isBelow_7 rfl rfl ?_
    refine gk_bipush (pc := 8) (v := 10) C.1 dX0_isBelow_8 (by decide) ?_
    refine gk_idiv (pc := 10) C.1 dX0_isBelow_10 (by decide) ?_
    obtain ⟨x_3, ex_3⟩ : ∃ z : Int32, z = x2 / 10 := ⟨_, rfl⟩
    rw [← ex_3]
    replace hw := hw x_3 ex_3
    refine gk_istore_n (pc := 11) (lv' := [(2, Value.int x_3), (1, Value.int x1)]) C.1 dX0_isBelow_11 rfl (by rw [hXn]; decide) (by first | rfl | simp [va_rf_S, va_rf_cat, cat_i, cat_a, cat_l, cat_f, fin4_0, fin4_1, fin4_2, fin4_3]) ?_
    refine gk_goto (pc := 12) (tgt := 2) C.1 dX0_isBelow_12 (by decide) ?_
    refine GK.sub (lv' := [(1, .int x1), (2, .int x_3)]) [1, 0] rfl ?_
    exact ih _ _ _ hw
def wb_X0_isBelow (cl : CT) (lm : Nat × Nat) (Q : QT) (E : ET) (x0 : Int32) (x1 : Int32) (h : HS) : Prop := ∃ fu : Nat, wb_X0_isBelow_2 cl lm Q E fu x1 x0 h
theorem wx_X0_isBelow {l : Launch} (hst : l.stackTraces = false) {G : GG} {cl : CT} {lm : Nat × Nat} {Q : QT} {E : ET} {d2 : Nat} (hCl : CallsOK l G d2 cl ∧ hLm G lm ∧ 8 ≤ d2 ∧ LamsOK l G d2 cl) {x0 : Int32} {x1 : Int32} {h : HS} (hw : wb_X0_isBelow cl lm Q E x0 x1 h) : HMet l G yX0_isBelow (ws_ yX0_isBelow cX0_isBelow 3 ((Option.some Jvm.ClassFile.FieldType.boolean))) (d2 + 1) [.int x0, .int x1] h Q E := by
  refine gh_met (own := RX0) rfl (by decide +kernel) hst (by simp only [lg_sl_i, lg_sl_r, lg_sl_a, lg_sl_2, lg_sl_f, lg_sl_0]; decide) (fun X hXl hXn hret hnm hTb h0 eh C S0 => ?_)
  subst hXl
  have hlm := hCl.2.1
  have hd8 := hCl.2.2.1
  have hd2 : 1 ≤ d2 := Nat.le_trans (by decide) hd8
  have hLa := hCl.2.2.2
  have hd1 : 1 ≤ d2 + 1 := Nat.le_add_left _ _
  have hC9 := hCl
  replace hCl := hCl.1
  have hini : True := trivial
  unfold wb_X0_isBelow at hw
  refine GK.sub (lv' := [(0, .int x0), (1, .int x1)]) [0, 1] (by simp only [lv_args_i, lv_args_r, lv_args_a, lv_args_l, lv_args_f, lv_args_0]; rfl) ?_
  refine gk_iload_n (pc := 0) C.1 0 dX0_isBelow_0 rfl rfl ?_
  refine gk_istore_n (pc := 1) (lv' := [(2, Value.int x0), (0, Value.int x0), (1, Value.int x1)]) C.1 dX0_isBelow_1 rfl (by rw [hXn]; decide) (by first | rfl | simp [va_rf_S, va_rf_cat, cat_i, cat_a, cat_l, cat_f, fin4_0, fin4_1, fin4_2, fin4_3]) ?_
  refine GK.sub (lv' := [(1, .int x1), (2, .int x0)]) [2, 0] rfl ?_
  obtain ⟨n9, hw⟩ := hw
  exact wk_X0_isBelow_2 C hC9 S0 hret hXn hini hTb  n9 _ _ _ hw
/-! 81: GathersAllFaults.isLess(LGathersAllFaults$Value;LGathersAllFaults$Value;)Z -/
def wb_X0_isLess_43 (cl : CT) (lm : Nat × Nat) (Q : QT) (E : ET) (x0 : Option Nat) (x1 : Option Nat) (h : HS) : Prop := ∃ a_1 : Nat, x0 = some a_1 ∧ (dp_Value_size cl a_1 [] h (gI (fun r_3 h_2 => ∃ a_6 : Nat, x1 = some a_6 ∧ (dp_Value_size cl a_6 [] h_2 (gI (fun r_8 h_7 => ((r_8 ≤ r_3 → (Q (some (.int 0)) h_7)) ∧ (¬ r_8 ≤ r_3 → (Q (some (.int 1)) h_7))))) E))) E)
theorem wk_X0_isLess_43 {X : Ev} {G : GG} {cl : CT} {lm : Nat × Nat} {Q : QT} {E : ET} {h0 : HS} {d2 : Nat} (C : HC X G RX0 cX0_isLess (d2 + 1)) (hCl : CallsOK (ev_l X) G d2 cl ∧ hLm G lm ∧ 8 ≤ d2 ∧ LamsOK (ev_l X) G d2 cl) (S0 : HS0 X h0) (hret : (ev_h X).sig.returnType = (Option.some Jvm.ClassFile.FieldType.boolean)) (hXn : ev_n X = 4) (hini : True) (hTb : (ev_c X).exceptionTable.toList = []) : ∀ (x0 : Option Nat) (x1 : Option Nat) (h : HS), wb_X0_isLess_43 cl lm Q E x0 x1 h → GH X G h (hQ X G h0 Q E) 43 [(0, va_rf x0), (1, va_rf x1)] [] := by
  have hlm := hCl.2.1
  have hd8 := hCl.2.2.1
  have hd2 : 1 ≤ d2 := Nat.le_trans (by decide) hd8
  have hLa := hCl.2.2.2
  have hd1 : 1 ≤ d2 + 1 := Nat.le_add_left _ _
  have hC9 := hCl
  replace hCl := hCl.1
  intro x0 x1 h hw
  unfold wb_X0_isLess_43 at hw
  refine gk_qload_n (pc := 43) C.1 0 dX0_isLess_43 rfl rfl ?_
  obtain ⟨a_1, rfl, hw⟩ := hw
  refine gc_X0_54 (pc := 44) (As := []) (rest := []) C hCl (Nat.le_refl _) hw rfl rfl (Nat.le_of_ble_eq_true rfl) dX0_isLess_44 (fun v9 h_2 hp => ?_) (fun q_4 h_5 hw ht9 => ?_)
  rotate_left
  · exact gx_out C S0 (by rw [hTb]; decide) ht9 hw
  clear hw
  obtain ⟨r_3, rfl, hw⟩ := hp
  refine GK.at (p2 := 47) rfl ?_
  refine gk_qload_n (pc := 47) C.1 1 dX0_isLess_47 rfl rfl ?_
  obtain ⟨a_6, rfl, hw⟩ := hw
  refine gc_X0_54 (pc := 48) (As := []) (rest := [.int r_3]) C hCl (Nat.le_refl _) hw rfl rfl (Nat.le_of_ble_eq_true rfl) dX0_isLess_48 (fun v9 h_7 hp => ?_) (fun q_9 h_10 hw ht9 => ?_)
  rotate_left
  · exact gx_out C S0 (by rw [hTb]; decide) ht9 hw
  clear hw
  obtain ⟨r_8, rfl, hw⟩ := hp
  refine GK.at (p2 := 51) rfl ?_
  refine gk_icmp_ge (pc := 51) (tgt := 58) C.1 dX0_isLess_51 (by decide) (fun c_11 => ?_) (fun c_11 => ?_)
  · replace hw := hw.1 c_11
    refine gk_iconst (pc := 58) (v := 0) C.1 dX0_isLess_58 (by decide) ?_
    exact gh_zret (pc := 59) C S0 hret dX0_isLess_59 bz0 hw
  · replace hw := hw.2 c_11
    refine gk_iconst (pc := 54) (v := 1) C.1 dX0_isLess_54 (by decide) ?_
    refine gk_goto (pc := 55) (tgt := 59) C.1 dX0_isLess_55 (by decide) ?_
    exact gh_zret (pc := 59) C S0 hret dX0_isLess_59 bz1 hw
def wb_X0_isLess (cl : CT) (lm : Nat × Nat) (Q : QT) (E : ET) (x0 : Option Nat) (x1 : Option Nat) (h : HS) : Prop := (∃ a_1 : Nat, x0 = some a_1 ∧ ((hT h a_1 = 2) ∧ (ck_GathersAllFaults_Num h (some a_1) ∧ ((∃ a_2 : Nat, x1 = some a_2 ∧ ((hT h a_2 = 2) ∧ (ck_GathersAllFaults_Num h (some a_2) ∧ ((hT h a_1 = 2) ∧ ((hT h a_2 = 2) ∧ ((((hI h 17 a_2) ≤ (hI h 17 a_1) → (Q (some (.int 0)) h)) ∧ (¬ (hI h 17 a_2) ≤ (hI h 17 a_1) → (Q (some (.int 1)) h))))))))) ∨ ((∀ a_2 : Nat, x1 = some a_2 → (hT h a_2 = 3 ∨ hT h a_2 = 4 ∨ hT h a_2 = 5 ∨ hT h a_2 = 300)) ∧ (wb_X0_isLess_43 cl lm Q E (some a_1) x1 h)))))) ∨ ((∀ a_1 : Nat, x0 = some a_1 → (hT h a_1 = 3 ∨ hT h a_1 = 4 ∨ hT h a_1 = 5 ∨ hT h a_1 = 300)) ∧ (wb_X0_isLess_43 cl lm Q E x0 x1 h))
theorem wx_X0_isLess {l : Launch} (hst : l.stackTraces = false) {G : GG} {cl : CT} {lm : Nat × Nat} {Q : QT} {E : ET} {d2 : Nat} (hCl : CallsOK l G d2 cl ∧ hLm G lm ∧ 8 ≤ d2 ∧ LamsOK l G d2 cl) {x0 : Option Nat} {x1 : Option Nat} {h : HS} (hw : wb_X0_isLess cl lm Q E x0 x1 h) : HMet l G yX0_isLess (ws_ yX0_isLess cX0_isLess 4 ((Option.some Jvm.ClassFile.FieldType.boolean))) (d2 + 1) [va_rf x0, va_rf x1] h Q E := by
  refine gh_met (own := RX0) rfl (by decide +kernel) hst (by simp only [lg_sl_i, lg_sl_r, lg_sl_a, lg_sl_2, lg_sl_f, lg_sl_0]; decide) (fun X hXl hXn hret hnm hTb h0 eh C S0 => ?_)
  subst hXl
  have hlm := hCl.2.1
  have hd8 := hCl.2.2.1
  have hd2 : 1 ≤ d2 := Nat.le_trans (by decide) hd8
  have hLa := hCl.2.2.2
  have hd1 : 1 ≤ d2 + 1 := Nat.le_add_left _ _
  have hC9 := hCl
  replace hCl := hCl.1
  have hini : True := trivial
  unfold wb_X0_isLess at hw
  refine GK.sub (lv' := [(0, va_rf x0), (1, va_rf x1)]) [0, 1] (by simp only [lv_args_i, lv_args_r, lv_args_a, lv_args_l, lv_args_f, lv_args_0]; rfl) ?_
  refine gk_qload_n (pc := 0) C.1 0 dX0_isLess_0 rfl rfl ?_
  rcases hw with ⟨a_1, rfl, hs, hw⟩ | ⟨hs, hw⟩
  · skip
    refine gi_X0_48_y (pc := 1) C hs dX0_isLess_1 ?_
    refine gk_if_eq (pc := 4) (tgt := 43) C.1 dX0_isLess_4 (by decide) (fun c9 => ?_) (fun c9 => ?_)
    · exact absurd c9 (by decide)
    refine gk_aload_n (pc := 7) C.1 0 dX0_isLess_7 rfl rfl ?_
    obtain ⟨hs, hw⟩ := hw
    refine gh_ckc (pc := 8) (r := (some a_1)) C q193 (ck_GathersAllFaults_Num_ok hs) dX0_isLess_8 ?_
    refine gk_astore_n (pc := 11) (lv' := [(3, Value.ref a_1), (0, Value.ref a_1), (1, va_rf x1)]) C.1 dX0_isLess_11 rfl (by rw [hXn]; decide) (by first | rfl | simp [va_rf_S, va_rf_cat, cat_i, cat_a, cat_l, cat_f, fin4_0, fin4_1, fin4_2, fin4_3]) ?_
    refine gk_qload_n (pc := 12) C.1 2 dX0_isLess_12 rfl rfl ?_
    rcases hw with ⟨a_2, rfl, hs, hw⟩ | ⟨hs, hw⟩
    · skip
      refine gi_X0_48_y (pc := 13) C hs dX0_isLess_13 ?_
      refine gk_if_eq (pc := 16) (tgt := 43) C.1 dX0_isLess_16 (by decide) (fun c9 => ?_) (fun c9 => ?_)
      · exact absurd c9 (by decide)
      refine gk_aload_n (pc := 19) C.1 2 dX0_isLess_19 rfl rfl ?_
      obtain ⟨hs, hw⟩ := hw
      refine gh_ckc (pc := 20) (r := (some a_2)) C q193 (ck_GathersAllFaults_Num_ok hs) dX0_isLess_20 ?_
      refine gk_astore_n (pc := 23) (lv' := [(2, Value.ref a_2), (3, Value.ref a_1), (0, Value.ref a_1), (1, Value.ref a_2)]) C.1 dX0_isLess_23 rfl (by rw [hXn]; decide) (by first | rfl | simp [va_rf_S, va_rf_cat, cat_i, cat_a, cat_l, cat_f, fin4_0, fin4_1, fin4_2, fin4_3]) ?_
      refine gk_aload_n (pc := 24) C.1 1 dX0_isLess_24 rfl rfl ?_
      obtain ⟨ht, hw⟩ := hw
      refine gf_X0_50 (pc := 25) C ht dX0_isLess_25 ?_
      refine gk_aload_n (pc := 28) C.1 0 dX0_isLess_28 rfl rfl ?_
      obtain ⟨ht, hw⟩ := hw
      refine gf_X0_50 (pc := 29) C ht dX0_isLess_29 ?_
      refine gk_icmp_ge (pc := 32) (tgt := 39) C.1 dX0_isLess_32 (by decide) (fun c_3 => ?_) (fun c_3 => ?_)
      · replace hw := hw.1 c_3
        refine gk_iconst (pc := 39) (v := 0) C.1 dX0_isLess_39 (by decide) ?_
        refine gk_goto (pc := 40) (tgt := 59) C.1 dX0_isLess_40 (by decide) ?_
        exact gh_zret (pc := 59) C S0 hret dX0_isLess_59 bz0 hw
      · replace hw := hw.2 c_3
        refine gk_iconst (pc := 35) (v := 1) C.1 dX0_isLess_35 (by decide) ?_
        refine gk_goto (pc := 36) (tgt := 59) C.1 dX0_isLess_36 (by decide) ?_
        exact gh_zret (pc := 59) C S0 hret dX0_isLess_59 bz1 hw
    · refine gi_X0_48_n (pc := 13) (r := x1) C hs dX0_isLess_13 ?_
      refine gk_if_eq (pc := 16) (tgt := 43) C.1 dX0_isLess_16 (by decide) (fun c9 => ?_) (fun c9 => ?_)
      rotate_left
      · exact absurd rfl c9
      refine GK.sub (lv' := [(0, va_rf (some a_1)), (1, va_rf x1)]) [1, 2] rfl ?_
      exact wk_X0_isLess_43 C hC9 S0 hret hXn hini hTb  _ _ _ hw
  · refine gi_X0_48_n (pc := 1) (r := x0) C hs dX0_isLess_1 ?_
    refine gk_if_eq (pc := 4) (tgt := 43) C.1 dX0_isLess_4 (by decide) (fun c9 => ?_) (fun c9 => ?_)
    rotate_left
    · exact absurd rfl c9
    refine GK.sub (lv' := [(0, va_rf x0), (1, va_rf x1)]) [0, 1] rfl ?_
    exact wk_X0_isLess_43 C hC9 S0 hret hXn hini hTb  _ _ _ hw
/-! 82: GathersAllFaults.isRowOf(LGathersAllFaults$Finding;)Z -/
def wb_X0_isRowOf_18 (cl : CT) (lm : Nat × Nat) (Q : QT) (E : ET) : Nat → Nat → Option Nat → Int32 → HS → Prop
  | 0 => fun _ _ _ _ => False
  | n + 1 => fun x0 x1 x2 h => (hT h x0 = 1) ∧ ((((hI h 6 x0) ≤ x2 → (Q (some (.int 1)) h)) ∧ (¬ (hI h 6 x0) ≤ x2 → (∃ a_2 : Nat, x1 = some a_2 ∧ ((hT h a_2 = 9) ∧ (∀ r_3 : Option Nat, r_3 = hR h 28 a_2 → (∃ a_4 : Nat, r_3 = some a_4 ∧ (dp_Row_at cl a_4 [.int x2] h (gR (fun r_6 h_5 => ck_GathersAllFaults_Found h_5 r_6 ∧ (∃ a_9 : Nat, r_6 = some a_9 ∧ ((hT h_5 a_9 = 8) ∧ ((hT h_5 x0 = 1) ∧ (∀ r_10 : Option Nat, r_10 = hR h_5 5 x0 → (∃ a_11 : Nat, r_10 = some a_11 ∧ (hT h_5 a_11 = 102 ∧ (vp_in x2 (hN h_5 a_11) ∧ ((((hI h_5 26 a_9) = (hA h_5 a_11 x2.toNatClampNeg) → (∀ x_13 : Int32, x_13 = x2 + 1 → (wb_X0_isRowOf_18 cl lm Q E n x0 (some a_2) x_13 h_5))) ∧ (¬ (hI h_5 26 a_9) = (hA h_5 a_11 x2.toNatClampNeg) → (Q (some (.int 0)) h_5))))))))))))) E))))))))
theorem wk_X0_isRowOf_18 {X : Ev} {G : GG} {cl : CT} {lm : Nat × Nat} {Q : QT} {E : ET} {h0 : HS} {d2 : Nat} (C : HC X G RX0 cX0_isRowOf (d2 + 1)) (hCl : CallsOK (ev_l X) G d2 cl ∧ hLm G lm ∧ 8 ≤ d2 ∧ LamsOK (ev_l X) G d2 cl) (S0 : HS0 X h0) (hret : (ev_h X).sig.returnType = (Option.some Jvm.ClassFile.FieldType.boolean)) (hXn : ev_n X = 3) (hini : True) (hTb : (ev_c X).exceptionTable.toList = []) : ∀ (n : Nat) (x0 : Nat) (x1 : Option Nat) (x2 : Int32) (h : HS), wb_X0_isRowOf_18 cl lm Q E n x0 x1 x2 h → GH X G h (hQ X G h0 Q E) 18 [(0, .ref x0), (1, va_rf x1), (2, .int x2)] [] := by
  have hlm := hCl.2.1
  have hd8 := hCl.2.2.1
  have hd2 : 1 ≤ d2 := Nat.le_trans (by decide) hd8
  have hLa := hCl.2.2.2
  have hd1 : 1 ≤ d2 + 1 := Nat.le_add_left _ _
  have hC9 := hCl
  replace hCl := hCl.1
  intro n
  induction n with
  | zero => intro x0 x1 x2 h hw; exact hw.elim
  | succ n ih =>
  intro x0 x1 x2 h hw
  unfold wb_X0_isRowOf_18 at hw
  refine gk_iload_n (pc := 18) C.1 2 dX0_isRowOf_18 rfl rfl ?_
  refine gk_aload_n (pc := 19) C.1 0 dX0_isRowOf_19 rfl rfl ?_
  obtain ⟨ht, hw⟩ := hw
  refine gf_X0_301 (pc := 20) C ht dX0_isRowOf_20 ?_
  refine gk_icmp_ge (pc := 23) (tgt := 57) C.1 dX0_isRowOf_23 (by decide) (fun c_1 => ?_) (fun c_1 => ?_)
  · replace hw := hw.1 c_1
    refine gk_iconst (pc := 57) (v := 1) C.1 dX0_isRowOf_57 (by decide) ?_
    exact gh_zret (pc := 58) C S0 hret dX0_isRowOf_58 bz1 hw
  · replace hw := hw.2 c_1
    refine gk_qload_n (pc := 26) C.1 1 dX0_isRowOf_26 rfl rfl ?_
    obtain ⟨a_2, rfl, hw⟩ := hw
    obtain ⟨ht, hw⟩ := hw
    refine gf_X0_221 (pc := 27) C ht dX0_isRowOf_27 (fun r_3 er_3 => ?_)
    replace hw := hw r_3 er_3
    refine gk_iload_n (pc := 30) C.1 2 dX0_isRowOf_30 rfl rfl ?_
    obtain ⟨a_4, rfl, hw⟩ := hw
    refine gc_X0_152 (pc := 31) (As := [.int x2]) (rest := []) C hCl (Nat.le_refl _) hw rfl rfl (Nat.le_of_ble_eq_true rfl) dX0_isRowOf_31 (fun v9 h_5 hp => ?_) (fun q_7 h_8 hw ht9 => ?_)
    rotate_left
    · exact gx_out C S0 (by rw [hTb]; decide) ht9 hw
    clear hw
    obtain ⟨r_6, rfl, hw⟩ := hp
    refine GK.at (p2 := 34) rfl ?_
    obtain ⟨hs, hw⟩ := hw
    refine gh_ckc (pc := 34) (r := r_6) C q1736 (ck_GathersAllFaults_Found_ok hs) dX0_isRowOf_34 ?_
    obtain ⟨a_9, rfl, hw⟩ := hw
    obtain ⟨ht, hw⟩ := hw
    refine gf_X0_235 (pc := 37) C ht dX0_isRowOf_37 ?_
    refine gk_aload_n (pc := 40) C.1 0 dX0_isRowOf_40 rfl rfl ?_
    obtain ⟨ht, hw⟩ := hw
    refine gf_X0_77 (pc := 41) C ht dX0_isRowOf_41 (fun r_10 er_10 => ?_)
    replace hw := hw r_10 er_10
    refine gk_iload_n (pc := 44) C.1 2 dX0_isRowOf_44 rfl rfl ?_
    obtain ⟨a_11, rfl, hw⟩ := hw
    obtain ⟨ht, hi, hw⟩ := hw
    refine gh_bald (pc := 45) C ht hi dX0_isRowOf_45 ?_
    refine gk_icmp_eq (pc := 46) (tgt := 51) C.1 dX0_isRowOf_46 (by decide) (fun c_12 => ?_) (fun c_12 => ?_)
    · replace hw := hw.1 c_12
      obtain ⟨x_13, ex_13⟩ : ∃ z : Int32, z = x2 + 1 := ⟨_, rfl⟩
      replace hw := hw x_13 ex_13
      refine gk_iinc (pc := 51) (v := x_13) (lv' := [(2, Value.int x_13), (0, Value.ref x0), (1, Value.ref a_2)]) C.1 2 dX0_isRowOf_51 rfl (by rw [ex_13]; rfl) (by rw [hXn]; decide) (by first | rfl | simp [va_rf_S, va_rf_cat, cat_i, cat_a, cat_l, cat_f, fin4_0, fin4_1, fin4_2, fin4_3]) ?_
      refine gk_goto (pc := 54) (tgt := 18) C.1 dX0_isRowOf_54 (by decide) ?_
      refine GK.sub (lv' := [(0, .ref x0), (1, va_rf (some a_2)), (2, .int x_13)]) [1, 2, 0] rfl ?_
      exact ih _ _ _ _ hw
    · replace hw := hw.2 c_12
      refine gk_iconst (pc := 49) (v := 0) C.1 dX0_isRowOf_49 (by decide) ?_
      exact gh_zret (pc := 50) C S0 hret dX0_isRowOf_50 bz0 hw
def wb_X0_isRowOf (cl : CT) (lm : Nat × Nat) (Q : QT) (E : ET) (x0 : Nat) (x1 : Option Nat) (h : HS) : Prop := (hT h x0 = 1) ∧ (∃ a_1 : Nat, x1 = some a_1 ∧ ((hT h a_1 = 9) ∧ (∀ r_2 : Option Nat, r_2 = hR h 28 a_1 → (∃ a_3 : Nat, r_2 = some a_3 ∧ ((hT h a_3 = 7) ∧ ((((hI h 6 x0) ≤ (hI h 24 a_3) → (∃ fu : Nat, wb_X0_isRowOf_18 cl lm Q E fu x0 (some a_1) 0 h)) ∧ (¬ (hI h 6 x0) ≤ (hI h 24 a_3) → (Q (some (.int 0)) h)))))))))
theorem wx_X0_isRowOf {l : Launch} (hst : l.stackTraces = false) {G : GG} {cl : CT} {lm : Nat × Nat} {Q : QT} {E : ET} {d2 : Nat} (hCl : CallsOK l G d2 cl ∧ hLm G lm ∧ 8 ≤ d2 ∧ LamsOK l G d2 cl) {x0 : Nat} {x1 : Option Nat} {h : HS} (hw : wb_X0_isRowOf cl lm Q E x0 x1 h) : HMet l G yX0_isRowOf (ws_ yX0_isRowOf cX0_isRowOf 3 ((Option.some Jvm.ClassFile.FieldType.boolean))) (d2 + 1) [.ref x0, va_rf x1] h Q E := by
  refine gh_met (own := RX0) rfl (by decide +kernel) hst (by simp only [lg_sl_i, lg_sl_r, lg_sl_a, lg_sl_2, lg_sl_f, lg_sl_0]; decide) (fun X hXl hXn hret hnm hTb h0 eh C S0 => ?_)
  subst hXl
  have hlm := hCl.2.1
  have hd8 := hCl.2.2.1
  have hd2 : 1 ≤ d2 := Nat.le_trans (by decide) hd8
  have hLa := hCl.2.2.2
  have hd1 : 1 ≤ d2 + 1 := Nat.le_add_left _ _
  have hC9 := hCl
  replace hCl := hCl.1
  have hini : True := trivial
  unfold wb_X0_isRowOf at hw
  refine GK.sub (lv' := [(0, .ref x0), (1, va_rf x1)]) [0, 1] (by simp only [lv_args_i, lv_args_r, lv_args_a, lv_args_l, lv_args_f, lv_args_0]; rfl) ?_
  refine gk_aload_n (pc := 0) C.1 0 dX0_isRowOf_0 rfl rfl ?_
  obtain ⟨ht, hw⟩ := hw
  refine gf_X0_301 (pc := 1) C ht dX0_isRowOf_1 ?_
  refine gk_qload_n (pc := 4) C.1 1 dX0_isRowOf_4 rfl rfl ?_
  obtain ⟨a_1, rfl, hw⟩ := hw
  obtain ⟨ht, hw⟩ := hw
  refine gf_X0_221 (pc := 5) C ht dX0_isRowOf_5 (fun r_2 er_2 => ?_)
  replace hw := hw r_2 er_2
  obtain ⟨a_3, rfl, hw⟩ := hw
  obtain ⟨ht, hw⟩ := hw
  refine gf_X0_149 (pc := 8) C ht dX0_isRowOf_8 ?_
  refine gk_icmp_le (pc := 11) (tgt := 16) C.1 dX0_isRowOf_11 (by decide) (fun c_4 => ?_) (fun c_4 => ?_)
  · replace hw := hw.1 c_4
    refine gk_iconst (pc := 16) (v := 0) C.1 dX0_isRowOf_16 (by decide) ?_
    refine gk_istore_n (pc := 17) (lv' := [(2, Value.int 0), (0, Value.ref x0), (1, Value.ref a_1)]) C.1 dX0_isRowOf_17 rfl (by rw [hXn]; decide) (by first | rfl | simp [va_rf_S, va_rf_cat, cat_i, cat_a, cat_l, cat_f, fin4_0, fin4_1, fin4_2, fin4_3]) ?_
    refine GK.sub (lv' := [(0, .ref x0), (1, va_rf (some a_1)), (2, .int 0)]) [1, 2, 0] rfl ?_
    obtain ⟨n9, hw⟩ := hw
    exact wk_X0_isRowOf_18 C hC9 S0 hret hXn hini hTb  n9 _ _ _ _ hw
  · replace hw := hw.2 c_4
    refine gk_iconst (pc := 14) (v := 0) C.1 dX0_isRowOf_14 (by decide) ?_
    exact gh_zret (pc := 15) C S0 hret dX0_isRowOf_15 bz0 hw
/-! 83: GathersAllFaults.judge()I -/
def wb_X0_judge (cl : CT) (lm : Nat × Nat) (Q : QT) (E : ET) (x0 : Nat) (h : HS) : Prop := dp_GathersAllFaults_act cl x0 [.int 23, .int 0, .int 0, .int 0] h (gI (fun r_2 h_1 => Q (some (.int r_2)) h_1)) E
theorem wx_X0_judge {l : Launch} (hst : l.stackTraces = false) {G : GG} {cl : CT} {lm : Nat × Nat} {Q : QT} {E : ET} {d2 : Nat} (hCl : CallsOK l G d2 cl ∧ hLm G lm ∧ 8 ≤ d2 ∧ LamsOK l G d2 cl) {x0 : Nat} {h : HS} (hw : wb_X0_judge cl lm Q E x0 h) : HMet l G yX0_judge (ws_ yX0_judge cX0_judge 1 ((Option.some Jvm.ClassFile.FieldType.int))) (d2 + 1) [.ref x0] h Q E := by
  refine gh_met (own := RX0) rfl (by decide +kernel) hst (by simp only [lg_sl_i, lg_sl_r, lg_sl_a, lg_sl_2, lg_sl_f, lg_sl_0]; decide) (fun X hXl hXn hret hnm hTb h0 eh C S0 => ?_)
  subst hXl
  have hlm := hCl.2.1
  have hd8 := hCl.2.2.1
  have hd2 : 1 ≤ d2 := Nat.le_trans (by decide) hd8
  have hLa := hCl.2.2.2
  have hd1 : 1 ≤ d2 + 1 := Nat.le_add_left _ _
  have hC9 := hCl
  replace hCl := hCl.1
  have hini : True := trivial
  unfold wb_X0_judge at hw
  refine GK.sub (lv' := [(0, .ref x0)]) [0] (by simp only [lv_args_i, lv_args_r, lv_args_a, lv_args_l, lv_args_f, lv_args_0]; rfl) ?_
  refine gk_aload_n (pc := 0) C.1 0 dX0_judge_0 rfl rfl ?_
  refine gk_bipush (pc := 1) (v := 23) C.1 dX0_judge_1 (by decide) ?_
  refine gk_iconst (pc := 3) (v := 0) C.1 dX0_judge_3 (by decide) ?_
  refine gk_iconst (pc := 4) (v := 0) C.1 dX0_judge_4 (by decide) ?_
  refine gk_iconst (pc := 5) (v := 0) C.1 dX0_judge_5 (by decide) ?_
  refine gc_X0_455 (pc := 6) (As := [.int 23, .int 0, .int 0, .int 0]) (rest := []) C hCl (Nat.le_refl _) hw rfl rfl (Nat.le_of_ble_eq_true rfl) dX0_judge_6 (fun v9 h_1 hp => ?_) (fun q_3 h_4 hw ht9 => ?_)
  rotate_left
  · exact gx_out C S0 (by rw [hTb]; decide) ht9 hw
  clear hw
  obtain ⟨r_2, rfl, hw⟩ := hp
  refine GK.at (p2 := 9) rfl ?_
  exact gh_iret (pc := 9) C S0 hret dX0_judge_9 hw
/-! 84: GathersAllFaults.judgeRow()I -/
def wb_X0_judgeRow_46 (cl : CT) (lm : Nat × Nat) (Q : QT) (E : ET) (x0 : Nat) (x2 : Int32) (h : HS) : Prop := (hT h x0 = 1) ∧ (∀ h_1 : HS, h_1 = sI h 6 x0 0 → (Q (some (.int x2)) h_1))
theorem wk_X0_judgeRow_46 {X : Ev} {G : GG} {cl : CT} {lm : Nat × Nat} {Q : QT} {E : ET} {h0 : HS} {d2 : Nat} (C : HC X G RX0 cX0_judgeRow (d2 + 1)) (hCl : CallsOK (ev_l X) G d2 cl ∧ hLm G lm ∧ 8 ≤ d2 ∧ LamsOK (ev_l X) G d2 cl) (S0 : HS0 X h0) (hret : (ev_h X).sig.returnType = (Option.some Jvm.ClassFile.FieldType.int)) (hXn : ev_n X = 5) (hini : True) (hTb : (ev_c X).exceptionTable.toList = tableOf [(0, 48, 89, 0), (55, 82, 89, 0), (89, 91, 89, 0)]) : ∀ (x0 : Nat) (x2 : Int32) (h : HS), wb_X0_judgeRow_46 cl lm Q E x0 x2 h → GH X G h (hQ X G h0 Q E) 46 [(0, .ref x0), (2, .int x2)] [] := by
  have hlm := hCl.2.1
  have hd8 := hCl.2.2.1
  have hd2 : 1 ≤ d2 := Nat.le_trans (by decide) hd8
  have hLa := hCl.2.2.2
  have hd1 : 1 ≤ d2 + 1 := Nat.le_add_left _ _
  have hC9 := hCl
  replace hCl := hCl.1
  intro x0 x2 h hw
  unfold wb_X0_judgeRow_46 at hw
  refine gk_iload_n (pc := 46) C.1 1 dX0_judgeRow_46 rfl rfl ?_
  refine gk_istore_n (pc := 47) (lv' := [(3, Value.int x2), (0, Value.ref x0), (2, Value.int x2)]) C.1 dX0_judgeRow_47 rfl (by rw [hXn]; decide) (by first | rfl | simp [va_rf_S, va_rf_cat, cat_i, cat_a, cat_l, cat_f, fin4_0, fin4_1, fin4_2, fin4_3]) ?_
  refine gk_aload_n (pc := 48) C.1 1 dX0_judgeRow_48 rfl rfl ?_
  refine gk_iconst (pc := 49) (v := 0) C.1 dX0_judgeRow_49 (by decide) ?_
  obtain ⟨ht, hw⟩ := hw
  refine gfp_X0_301 (pc := 50) C ht dX0_judgeRow_50 (fun h_1 eh_1 => ?_)
  replace hw := hw h_1 eh_1
  refine gk_iload_n (pc := 53) C.1 0 dX0_judgeRow_53 rfl rfl ?_
  exact gh_iret (pc := 54) C S0 hret dX0_judgeRow_54 hw
def wb_X0_judgeRow_81 (cl : CT) (lm : Nat × Nat) (Q : QT) (E : ET) (x0 : Nat) (s0 : Int32) (h : HS) : Prop := (hT h x0 = 1) ∧ (∀ h_1 : HS, h_1 = sI h 6 x0 0 → (Q (some (.int s0)) h_1))
theorem wk_X0_judgeRow_81 {X : Ev} {G : GG} {cl : CT} {lm : Nat × Nat} {Q : QT} {E : ET} {h0 : HS} {d2 : Nat} (C : HC X G RX0 cX0_judgeRow (d2 + 1)) (hCl : CallsOK (ev_l X) G d2 cl ∧ hLm G lm ∧ 8 ≤ d2 ∧ LamsOK (ev_l X) G d2 cl) (S0 : HS0 X h0) (hret : (ev_h X).sig.returnType = (Option.some Jvm.ClassFile.FieldType.int)) (hXn : ev_n X = 5) (hini : True) (hTb : (ev_c X).exceptionTable.toList = tableOf [(0, 48, 89, 0), (55, 82, 89, 0), (89, 91, 89, 0)]) : ∀ (x0 : Nat) (s0 : Int32) (h : HS), wb_X0_judgeRow_81 cl lm Q E x0 s0 h → GH X G h (hQ X G h0 Q E) 81 [(0, .ref x0)] [.int s0] := by
  have hlm := hCl.2.1
  have hd8 := hCl.2.2.1
  have hd2 : 1 ≤ d2 := Nat.le_trans (by decide) hd8
  have hLa := hCl.2.2.2
  have hd1 : 1 ≤ d2 + 1 := Nat.le_add_left _ _
  have hC9 := hCl
  replace hCl := hCl.1
  intro x0 s0 h hw
  unfold wb_X0_judgeRow_81 at hw
  refine gk_istore_n (pc := 81) (lv' := [(2, Value.int s0), (0, Value.ref x0)]) C.1 dX0_judgeRow_81 rfl (by rw [hXn]; decide) (by first | rfl | simp [va_rf_S, va_rf_cat, cat_i, cat_a, cat_l, cat_f, fin4_0, fin4_1, fin4_2, fin4_3]) ?_
  refine gk_aload_n (pc := 82) C.1 1 dX0_judgeRow_82 rfl rfl ?_
  refine gk_iconst (pc := 83) (v := 0) C.1 dX0_judgeRow_83 (by decide) ?_
  obtain ⟨ht, hw⟩ := hw
  refine gfp_X0_301 (pc := 84) C ht dX0_judgeRow_84 (fun h_1 eh_1 => ?_)
  replace hw := hw h_1 eh_1
  refine gk_iload_n (pc := 87) C.1 0 dX0_judgeRow_87 rfl rfl ?_
  exact gh_iret (pc := 88) C S0 hret dX0_judgeRow_88 hw
def wb_X0_judgeRow_89 (cl : CT) (lm : Nat × Nat) (Q : QT) (E : ET) (x0 : Nat) (s0 : Nat) (h : HS) : Prop := (hT h x0 = 1) ∧ (∀ h_1 : HS, h_1 = sI h 6 x0 0 → ((hT h_1 s0 = 16 ∨ hT h_1 s0 = 17) ∧ (E s0 h_1)))
theorem wk_X0_judgeRow_89 {X : Ev} {G : GG} {cl : CT} {lm : Nat × Nat} {Q : QT} {E : ET} {h0 : HS} {d2 : Nat} (C : HC X G RX0 cX0_judgeRow (d2 + 1)) (hCl : CallsOK (ev_l X) G d2 cl ∧ hLm G lm ∧ 8 ≤ d2 ∧ LamsOK (ev_l X) G d2 cl) (S0 : HS0 X h0) (hret : (ev_h X).sig.returnType = (Option.some Jvm.ClassFile.FieldType.int)) (hXn : ev_n X = 5) (hini : True) (hTb : (ev_c X).exceptionTable.toList = tableOf [(0, 48, 89, 0), (55, 82, 89, 0), (89, 91, 89, 0)]) : ∀ (x0 : Nat) (s0 : Nat) (h : HS), wb_X0_judgeRow_89 cl lm Q E x0 s0 h → GH X G h (hQ X G h0 Q E) 89 [(0, .ref x0)] [.ref s0] := by
  have hlm := hCl.2.1
  have hd8 := hCl.2.2.1
  have hd2 : 1 ≤ d2 := Nat.le_trans (by decide) hd8
  have hLa := hCl.2.2.2
  have hd1 : 1 ≤ d2 + 1 := Nat.le_add_left _ _
  have hC9 := hCl
  replace hCl := hCl.1
  intro x0 s0 h hw
  unfold wb_X0_judgeRow_89 at hw
  refine gk_astore (pc := 89) (lv' := [(4, Value.ref s0), (0, Value.ref x0)]) C.1 dX0_judgeRow_89 (by rw [hXn]; decide) (by first | rfl | simp [va_rf_S, va_rf_cat, cat_i, cat_a, cat_l, cat_f, fin4_0, fin4_1, fin4_2, fin4_3]) ?_
  refine gk_aload_n (pc := 91) C.1 1 dX0_judgeRow_91 rfl rfl ?_
  refine gk_iconst (pc := 92) (v := 0) C.1 dX0_judgeRow_92 (by decide) ?_
  obtain ⟨ht, hw⟩ := hw
  refine gfp_X0_301 (pc := 93) C ht dX0_judgeRow_93 (fun h_1 eh_1 => ?_)
  replace hw := hw h_1 eh_1
  refine gk_aload (pc := 96) C.1 0 dX0_judgeRow_96 rfl ?_
  refine gh_athrow (pc := 98) C dX0_judgeRow_98 ?_
  obtain ⟨ht9, hw⟩ := hw
  exact gx_out C S0 (by rw [hTb]; decide) ht9 hw
def wb_X0_judgeRow_10 (cl : CT) (lm : Nat × Nat) (Q : QT) (E : ET) : Nat → Nat → Option Nat → Int32 → HS → Prop
  | 0 => fun _ _ _ _ => False
  | n + 1 => fun x0 x1 x2 h => (hT h x0 = 1) ∧ ((((hI h 6 x0) ≤ x2 → ((hT h x0 = 1) ∧ (∃ a_2 : Nat, x1 = some a_2 ∧ ((hT h a_2 = 7) ∧ ((((hI h 24 a_2) ≤ (hI h 6 x0) → (wb_X0_judgeRow_81 cl lm Q E x0 (-9) h)) ∧ (¬ (hI h 24 a_2) ≤ (hI h 6 x0) → ((hT h x0 = 1) ∧ (wb_X0_judgeRow_81 cl lm Q E x0 (hI h 6 x0) h))))))))) ∧ (¬ (hI h 6 x0) ≤ x2 → (∃ a_4 : Nat, x1 = some a_4 ∧ ((hT h a_4 = 7) ∧ ((((hI h 24 a_4) ≤ x2 → (wb_X0_judgeRow_46 cl lm Q E x0 x2 h)) ∧ (¬ (hI h 24 a_4) ≤ x2 → (dp_Row_at cl a_4 [.int x2] h (gR (fun r_7 h_6 => ck_GathersAllFaults_Found h_6 r_7 ∧ (∃ a_10 : Nat, r_7 = some a_10 ∧ ((hT h_6 a_10 = 8) ∧ ((hT h_6 x0 = 1) ∧ (∀ r_11 : Option Nat, r_11 = hR h_6 5 x0 → (∃ a_12 : Nat, r_11 = some a_12 ∧ (hT h_6 a_12 = 102 ∧ (vp_in x2 (hN h_6 a_12) ∧ ((((hI h_6 26 a_10) = (hA h_6 a_12 x2.toNatClampNeg) → (∀ x_14 : Int32, x_14 = x2 + 1 → (wb_X0_judgeRow_10 cl lm Q E n x0 (some a_4) x_14 h_6))) ∧ (¬ (hI h_6 26 a_10) = (hA h_6 a_12 x2.toNatClampNeg) → (wb_X0_judgeRow_46 cl lm Q E x0 x2 h_6))))))))))))) (fun q_8 h_9 => wb_X0_judgeRow_89 cl lm Q E x0 q_8 h_9))))))))))
theorem wk_X0_judgeRow_10 {X : Ev} {G : GG} {cl : CT} {lm : Nat × Nat} {Q : QT} {E : ET} {h0 : HS} {d2 : Nat} (C : HC X G RX0 cX0_judgeRow (d2 + 1)) (hCl : CallsOK (ev_l X) G d2 cl ∧ hLm G lm ∧ 8 ≤ d2 ∧ LamsOK (ev_l X) G d2 cl) (S0 : HS0 X h0) (hret : (ev_h X).sig.returnType = (Option.some Jvm.ClassFile.FieldType.int)) (hXn : ev_n X = 5) (hini : True) (hTb : (ev_c X).exceptionTable.toList = tableOf [(0, 48, 89, 0), (55, 82, 89, 0), (89, 91, 89, 0)]) : ∀ (n : Nat) (x0 : Nat) (x1 : Option Nat) (x2 : Int32) (h : HS), wb_X0_judgeRow_10 cl lm Q E n x0 x1 x2 h → GH X G h (hQ X G h0 Q E) 10 [(0, .ref x0), (1, va_rf x1), (2, .int x2)] [] := by
  have hlm := hCl.2.1
  have hd8 := hCl.2.2.1
  have hd2 : 1 ≤ d2 := Nat.le_trans (by decide) hd8
  have hLa := hCl.2.2.2
  have hd1 : 1 ≤ d2 + 1 := Nat.le_add_left _ _
  have hC9 := hCl
  replace hCl := hCl.1
  intro n
  induction n with
  | zero => intro x0 x1 x2 h hw; exact hw.elim
  | succ n ih =>
  intro x0 x1 x2 h hw
  unfold wb_X0_judgeRow_10 at hw
  refine gk_iload_n (pc := 10) C.1 2 dX0_judgeRow_10 rfl rfl ?_
  refine gk_aload_n (pc := 11) C.1 0 dX0_judgeRow_11 rfl rfl ?_
  obtain ⟨ht, hw⟩ := hw
  refine gf_X0_301 (pc := 12) C ht dX0_judgeRow_12 ?_
  refine gk_icmp_ge (pc := 15) (tgt := 61) C.1 dX0_judgeRow_15 (by decide) (fun c_1 => ?_) (fun c_1 => ?_)
  · replace hw := hw.1 c_1
    refine gk_aload_n (pc := 61) C.1 0 dX0_judgeRow_61 rfl rfl ?_
    obtain ⟨ht, hw⟩ := hw
    refine gf_X0_301 (pc := 62) C ht dX0_judgeRow_62 ?_
    refine gk_qload_n (pc := 65) C.1 1 dX0_judgeRow_65 rfl rfl ?_
    obtain ⟨a_2, rfl, hw⟩ := hw
    obtain ⟨ht, hw⟩ := hw
    refine gf_X0_149 (pc := 66) C ht dX0_judgeRow_66 ?_
    refine gk_icmp_ge (pc := 69) (tgt := 79) C.1 dX0_judgeRow_69 (by decide) (fun c_3 => ?_) (fun c_3 => ?_)
    · replace hw := hw.1 c_3
      refine gk_bipush (pc := 79) (v := (-9)) C.1 dX0_judgeRow_79 (by decide) ?_
      refine GK.sub (lv' := [(0, .ref x0)]) [0] rfl ?_
      exact wk_X0_judgeRow_81 C hC9 S0 hret hXn hini hTb  _ _ _ hw
    · replace hw := hw.2 c_3
      refine gk_aload_n (pc := 72) C.1 0 dX0_judgeRow_72 rfl rfl ?_
      obtain ⟨ht, hw⟩ := hw
      refine gf_X0_301 (pc := 73) C ht dX0_judgeRow_73 ?_
      refine gk_goto (pc := 76) (tgt := 81) C.1 dX0_judgeRow_76 (by decide) ?_
      refine GK.sub (lv' := [(0, .ref x0)]) [0] rfl ?_
      exact wk_X0_judgeRow_81 C hC9 S0 hret hXn hini hTb  _ _ _ hw
  · replace hw := hw.2 c_1
    refine gk_iload_n (pc := 18) C.1 2 dX0_judgeRow_18 rfl rfl ?_
    refine gk_qload_n (pc := 19) C.1 1 dX0_judgeRow_19 rfl rfl ?_
    obtain ⟨a_4, rfl, hw⟩ := hw
    obtain ⟨ht, hw⟩ := hw
    refine gf_X0_149 (pc := 20) C ht dX0_judgeRow_20 ?_
    refine gk_icmp_ge (pc := 23) (tgt := 46) C.1 dX0_judgeRow_23 (by decide) (fun c_5 => ?_) (fun c_5 => ?_)
    · replace hw := hw.1 c_5
      refine GK.sub (lv' := [(0, .ref x0), (2, .int x2)]) [0, 2] rfl ?_
      exact wk_X0_judgeRow_46 C hC9 S0 hret hXn hini hTb  _ _ _ hw
    · replace hw := hw.2 c_5
      refine gk_aload_n (pc := 26) C.1 1 dX0_judgeRow_26 rfl rfl ?_
      refine gk_iload_n (pc := 27) C.1 2 dX0_judgeRow_27 rfl rfl ?_
      refine gc_X0_152 (pc := 28) (As := [.int x2]) (rest := []) C hCl (Nat.le_refl _) hw rfl rfl (Nat.le_of_ble_eq_true rfl) dX0_judgeRow_28 (fun v9 h_6 hp => ?_) (fun q_8 h_9 hw ht9 => ?_)
      rotate_left
      · refine gx_any C [] ⟨0, 48, 89, 0⟩ [⟨55, 82, 89, 0⟩, ⟨89, 91, 89, 0⟩] (by rw [hTb]; rfl) (by decide) (by decide) rfl ht9 ?_
        refine GK.sub (lv' := [(0, .ref x0)]) [0] rfl ?_
        exact wk_X0_judgeRow_89 C hC9 S0 hret hXn hini hTb  _ _ _ hw
      clear hw
      obtain ⟨r_7, rfl, hw⟩ := hp
      refine GK.at (p2 := 31) rfl ?_
      obtain ⟨hs, hw⟩ := hw
      refine gh_ckc (pc := 31) (r := r_7) C q1736 (ck_GathersAllFaults_Found_ok hs) dX0_judgeRow_31 ?_
      obtain ⟨a_10, rfl, hw⟩ := hw
      obtain ⟨ht, hw⟩ := hw
      refine gf_X0_235 (pc := 34) C ht dX0_judgeRow_34 ?_
      refine gk_aload_n (pc := 37) C.1 0 dX0_judgeRow_37 rfl rfl ?_
      obtain ⟨ht, hw⟩ := hw
      refine gf_X0_77 (pc := 38) C ht dX0_judgeRow_38 (fun r_11 er_11 => ?_)
      replace hw := hw r_11 er_11
      refine gk_iload_n (pc := 41) C.1 2 dX0_judgeRow_41 rfl rfl ?_
      obtain ⟨a_12, rfl, hw⟩ := hw
      obtain ⟨ht, hi, hw⟩ := hw
      refine gh_bald (pc := 42) C ht hi dX0_judgeRow_42 ?_
      refine gk_icmp_eq (pc := 43) (tgt := 55) C.1 dX0_judgeRow_43 (by decide) (fun c_13 => ?_) (fun c_13 => ?_)
      · replace hw := hw.1 c_13
        obtain ⟨x_14, ex_14⟩ : ∃ z : Int32, z = x2 + 1 := ⟨_, rfl⟩
        replace hw := hw x_14 ex_14
        refine gk_iinc (pc := 55) (v := x_14) (lv' := [(2, Value.int x_14), (0, Value.ref x0), (1, Value.ref a_4)]) C.1 2 dX0_judgeRow_55 rfl (by rw [ex_14]; rfl) (by rw [hXn]; decide) (by first | rfl | simp [va_rf_S, va_rf_cat, cat_i, cat_a, cat_l, cat_f, fin4_0, fin4_1, fin4_2, fin4_3]) ?_
        refine gk_goto (pc := 58) (tgt := 10) C.1 dX0_judgeRow_58 (by decide) ?_
        refine GK.sub (lv' := [(0, .ref x0), (1, va_rf (some a_4)), (2, .int x_14)]) [1, 2, 0] rfl ?_
        exact ih _ _ _ _ hw
      · replace hw := hw.2 c_13
        refine GK.sub (lv' := [(0, .ref x0), (2, .int x2)]) [0, 2] rfl ?_
        exact wk_X0_judgeRow_46 C hC9 S0 hret hXn hini hTb  _ _ _ hw
def wb_X0_judgeRow (cl : CT) (lm : Nat × Nat) (Q : QT) (E : ET) (x0 : Nat) (h : HS) : Prop := dp_GathersAllFaults_found cl x0 [] h (gR (fun r_2 h_1 => ∃ a_5 : Nat, r_2 = some a_5 ∧ ((hT h_1 a_5 = 9) ∧ (∀ r_6 : Option Nat, r_6 = hR h_1 28 a_5 → (∃ fu : Nat, wb_X0_judgeRow_10 cl lm Q E fu x0 r_6 0 h_1))))) (fun q_3 h_4 => wb_X0_judgeRow_89 cl lm Q E x0 q_3 h_4)
theorem wx_X0_judgeRow {l : Launch} (hst : l.stackTraces = false) {G : GG} {cl : CT} {lm : Nat × Nat} {Q : QT} {E : ET} {d2 : Nat} (hCl : CallsOK l G d2 cl ∧ hLm G lm ∧ 8 ≤ d2 ∧ LamsOK l G d2 cl) {x0 : Nat} {h : HS} (hw : wb_X0_judgeRow cl lm Q E x0 h) : HMet l G yX0_judgeRow (wsW_ yX0_judgeRow cX0_judgeRow 5 ((Option.some Jvm.ClassFile.FieldType.int)) [(0, 48, 89, 0), (55, 82, 89, 0), (89, 91, 89, 0)]) (d2 + 1) [.ref x0] h Q E := by
  refine gh_metW (own := RX0) rfl (by decide +kernel) hst (by simp only [lg_sl_i, lg_sl_r, lg_sl_a, lg_sl_2, lg_sl_f, lg_sl_0]; decide) (fun X hXl hXn hret hnm hTb h0 eh C S0 => ?_)
  subst hXl
  have hlm := hCl.2.1
  have hd8 := hCl.2.2.1
  have hd2 : 1 ≤ d2 := Nat.le_trans (by decide) hd8
  have hLa := hCl.2.2.2
  have hd1 : 1 ≤ d2 + 1 := Nat.le_add_left _ _
  have hC9 := hCl
  replace hCl := hCl.1
  have hini : True := trivial
  unfold wb_X0_judgeRow at hw
  refine GK.sub (lv' := [(0, .ref x0)]) [0] (by simp only [lv_args_i, lv_args_r, lv_args_a, lv_args_l, lv_args_f, lv_args_0]; rfl) ?_
  refine gk_aload_n (pc := 0) C.1 0 dX0_judgeRow_0 rfl rfl ?_
  refine gc_X0_229 (pc := 1) (As := []) (rest := []) C hCl (Nat.le_refl _) hw rfl rfl (Nat.le_of_ble_eq_true rfl) dX0_judgeRow_1 (fun v9 h_1 hp => ?_) (fun q_3 h_4 hw ht9 => ?_)
  rotate_left
  · refine gx_any C [] ⟨0, 48, 89, 0⟩ [⟨55, 82, 89, 0⟩, ⟨89, 91, 89, 0⟩] (by rw [hTb]; rfl) (by decide) (by decide) rfl ht9 ?_
    refine GK.sub (lv' := [(0, .ref x0)]) [0] rfl ?_
    exact wk_X0_judgeRow_89 C hC9 S0 hret hXn hini hTb  _ _ _ hw
  clear hw
  obtain ⟨r_2, rfl, hw⟩ := hp
  refine GK.at (p2 := 4) rfl ?_
  obtain ⟨a_5, rfl, hw⟩ := hw
  obtain ⟨ht, hw⟩ := hw
  refine gf_X0_221 (pc := 4) C ht dX0_judgeRow_4 (fun r_6 er_6 => ?_)
  replace hw := hw r_6 er_6
  refine gk_qstore_n (pc := 7) (lv' := [(1, va_rf r_6), (0, Value.ref x0)]) C.1 dX0_judgeRow_7 rfl (by rw [hXn]; decide) (by first | rfl | simp [va_rf_S, va_rf_cat, cat_i, cat_a, cat_l, cat_f, fin4_0, fin4_1, fin4_2, fin4_3]) ?_
  refine gk_iconst (pc := 8) (v := 0) C.1 dX0_judgeRow_8 (by decide) ?_
  refine gk_istore_n (pc := 9) (lv' := [(2, Value.int 0), (1, va_rf r_6), (0, Value.ref x0)]) C.1 dX0_judgeRow_9 rfl (by rw [hXn]; decide) (by first | rfl | simp [va_rf_S, va_rf_cat, cat_i, cat_a, cat_l, cat_f, fin4_0, fin4_1, fin4_2, fin4_3]) ?_
  refine GK.sub (lv' := [(0, .ref x0), (1, va_rf r_6), (2, .int 0)]) [2, 1, 0] rfl ?_
  obtain ⟨n9, hw⟩ := hw
  exact wk_X0_judgeRow_10 C hC9 S0 hret hXn hini hTb  n9 _ _ _ _ hw
/-! 85: GathersAllFaults.lambda$eitherLook$4(LGathersAllFaults$Look;LGathersAllFaults$Look;LGathersAllFaults$Value;ILGathersAllFaults$Finding;)V -/
def wb_X0_lambda_eitherLook_4_77 (cl : CT) (lm : Nat × Nat) (Q : QT) (E : ET) (x5 : Int32) (s0 : Option Nat) (s1 : Option Nat) (h : HS) : Prop := ∃ a_1 : Nat, s0 = some a_1 ∧ (dp_Finding_and cl a_1 [va_rf s1] h (gR (fun r_3 h_2 => ∃ a_6 : Nat, r_3 = some a_6 ∧ ((hT h_2 a_6 = 9) ∧ (∀ r_7 : Option Nat, r_7 = hR h_2 27 a_6 → (∃ a_8 : Nat, r_7 = some a_8 ∧ ((hT h_2 a_8 = 10) ∧ (∀ h_9 : HS, h_9 = sI h_2 31 a_8 x5 → (Q none h_9)))))))) E)
theorem wk_X0_lambda_eitherLook_4_77 {X : Ev} {G : GG} {cl : CT} {lm : Nat × Nat} {Q : QT} {E : ET} {h0 : HS} {d2 : Nat} (C : HC X G RX0 cX0_lambda_eitherLook_4 (d2 + 1)) (hCl : CallsOK (ev_l X) G d2 cl ∧ hLm G lm ∧ 8 ≤ d2 ∧ LamsOK (ev_l X) G d2 cl) (S0 : HS0 X h0) (hret : (ev_h X).sig.returnType = (Option.none : Option Jvm.ClassFile.FieldType)) (hXn : ev_n X = 8) (hini : True) (hTb : (ev_c X).exceptionTable.toList = []) : ∀ (x5 : Int32) (s0 : Option Nat) (s1 : Option Nat) (h : HS), wb_X0_lambda_eitherLook_4_77 cl lm Q E x5 s0 s1 h → GH X G h (hQ X G h0 Q E) 77 [(5, .int x5)] [va_rf s1, va_rf s0] := by
  have hlm := hCl.2.1
  have hd8 := hCl.2.2.1
  have hd2 : 1 ≤ d2 := Nat.le_trans (by decide) hd8
  have hLa := hCl.2.2.2
  have hd1 : 1 ≤ d2 + 1 := Nat.le_add_left _ _
  have hC9 := hCl
  replace hCl := hCl.1
  intro x5 s0 s1 h hw
  unfold wb_X0_lambda_eitherLook_4_77 at hw
  obtain ⟨a_1, rfl, hw⟩ := hw
  refine gc_X0_486 (pc := 77) (As := [va_rf s1]) (rest := []) C hCl (Nat.le_refl _) hw rfl rfl (Nat.le_of_ble_eq_true rfl) dX0_lambda_eitherLook_4_77 (fun v9 h_2 hp => ?_) (fun q_4 h_5 hw ht9 => ?_)
  rotate_left
  · exact gx_out C S0 (by rw [hTb]; decide) ht9 hw
  clear hw
  obtain ⟨r_3, rfl, hw⟩ := hp
  refine GK.at (p2 := 80) rfl ?_
  obtain ⟨a_6, rfl, hw⟩ := hw
  obtain ⟨ht, hw⟩ := hw
  refine gf_X0_475 (pc := 80) C ht dX0_lambda_eitherLook_4_80 (fun r_7 er_7 => ?_)
  replace hw := hw r_7 er_7
  refine gk_iload (pc := 83) C.1 0 dX0_lambda_eitherLook_4_83 rfl ?_
  obtain ⟨a_8, rfl, hw⟩ := hw
  obtain ⟨ht, hw⟩ := hw
  refine gfp_X0_479 (pc := 85) C ht dX0_lambda_eitherLook_4_85 (fun h_9 eh_9 => ?_)
  replace hw := hw h_9 eh_9
  exact gh_vret (pc := 88) C S0 hret dX0_lambda_eitherLook_4_88 hw
def wb_X0_lambda_eitherLook_4_47 (cl : CT) (lm : Nat × Nat) (Q : QT) (E : ET) (x4 : Option Nat) (x5 : Int32) (x6 : Option Nat) (s0 : Option Nat) (h : HS) : Prop := ∃ a_1 : Nat, s0 = some a_1 ∧ ((hT h a_1 = 9) ∧ (∀ r_2 : Option Nat, r_2 = hR h 28 a_1 → (∃ a_3 : Nat, r_2 = some a_3 ∧ ((hT h a_3 = 7) ∧ (∃ a_4 : Nat, x6 = some a_4 ∧ ((hT h a_4 = 9) ∧ (∀ r_5 : Option Nat, r_5 = hR h 28 a_4 → (∃ a_6 : Nat, r_5 = some a_6 ∧ ((hT h a_6 = 7) ∧ ((((hI h 24 a_6) ≤ (hI h 24 a_3) → (wb_X0_lambda_eitherLook_4_77 cl lm Q E x5 x4 (some a_4) h)) ∧ (¬ (hI h 24 a_6) ≤ (hI h 24 a_3) → (wb_X0_lambda_eitherLook_4_77 cl lm Q E x5 x4 (some a_1) h)))))))))))))
theorem wk_X0_lambda_eitherLook_4_47 {X : Ev} {G : GG} {cl : CT} {lm : Nat × Nat} {Q : QT} {E : ET} {h0 : HS} {d2 : Nat} (C : HC X G RX0 cX0_lambda_eitherLook_4 (d2 + 1)) (hCl : CallsOK (ev_l X) G d2 cl ∧ hLm G lm ∧ 8 ≤ d2 ∧ LamsOK (ev_l X) G d2 cl) (S0 : HS0 X h0) (hret : (ev_h X).sig.returnType = (Option.none : Option Jvm.ClassFile.FieldType)) (hXn : ev_n X = 8) (hini : True) (hTb : (ev_c X).exceptionTable.toList = []) : ∀ (x4 : Option Nat) (x5 : Int32) (x6 : Option Nat) (s0 : Option Nat) (h : HS), wb_X0_lambda_eitherLook_4_47 cl lm Q E x4 x5 x6 s0 h → GH X G h (hQ X G h0 Q E) 47 [(4, va_rf x4), (5, .int x5), (6, va_rf x6)] [va_rf s0] := by
  have hlm := hCl.2.1
  have hd8 := hCl.2.2.1
  have hd2 : 1 ≤ d2 := Nat.le_trans (by decide) hd8
  have hLa := hCl.2.2.2
  have hd1 : 1 ≤ d2 + 1 := Nat.le_add_left _ _
  have hC9 := hCl
  replace hCl := hCl.1
  intro x4 x5 x6 s0 h hw
  unfold wb_X0_lambda_eitherLook_4_47 at hw
  refine gk_qstore (pc := 47) (lv' := [(7, va_rf s0), (4, va_rf x4), (5, Value.int x5), (6, va_rf x6)]) C.1 dX0_lambda_eitherLook_4_47 (by rw [hXn]; decide) (by first | rfl | simp [va_rf_S, va_rf_cat, cat_i, cat_a, cat_l, cat_f, fin4_0, fin4_1, fin4_2, fin4_3]) ?_
  refine gk_qload (pc := 49) C.1 1 dX0_lambda_eitherLook_4_49 rfl ?_
  refine gk_qload (pc := 51) C.1 0 dX0_lambda_eitherLook_4_51 rfl ?_
  obtain ⟨a_1, rfl, hw⟩ := hw
  obtain ⟨ht, hw⟩ := hw
  refine gf_X0_221 (pc := 53) C ht dX0_lambda_eitherLook_4_53 (fun r_2 er_2 => ?_)
  replace hw := hw r_2 er_2
  obtain ⟨a_3, rfl, hw⟩ := hw
  obtain ⟨ht, hw⟩ := hw
  refine gf_X0_149 (pc := 56) C ht dX0_lambda_eitherLook_4_56 ?_
  refine gk_qload (pc := 59) C.1 3 dX0_lambda_eitherLook_4_59 rfl ?_
  obtain ⟨a_4, rfl, hw⟩ := hw
  obtain ⟨ht, hw⟩ := hw
  refine gf_X0_221 (pc := 61) C ht dX0_lambda_eitherLook_4_61 (fun r_5 er_5 => ?_)
  replace hw := hw r_5 er_5
  obtain ⟨a_6, rfl, hw⟩ := hw
  obtain ⟨ht, hw⟩ := hw
  refine gf_X0_149 (pc := 64) C ht dX0_lambda_eitherLook_4_64 ?_
  refine gk_icmp_ge (pc := 67) (tgt := 75) C.1 dX0_lambda_eitherLook_4_67 (by decide) (fun c_7 => ?_) (fun c_7 => ?_)
  · replace hw := hw.1 c_7
    refine gk_aload (pc := 75) C.1 3 dX0_lambda_eitherLook_4_75 rfl ?_
    refine GK.sub (lv' := [(5, .int x5)]) [2] rfl ?_
    exact wk_X0_lambda_eitherLook_4_77 C hC9 S0 hret hXn hini hTb  _ _ _ _ hw
  · replace hw := hw.2 c_7
    refine gk_aload (pc := 70) C.1 0 dX0_lambda_eitherLook_4_70 rfl ?_
    refine gk_goto (pc := 72) (tgt := 77) C.1 dX0_lambda_eitherLook_4_72 (by decide) ?_
    refine GK.sub (lv' := [(5, .int x5)]) [2] rfl ?_
    exact wk_X0_lambda_eitherLook_4_77 C hC9 S0 hret hXn hini hTb  _ _ _ _ hw
def wb_X0_lambda_eitherLook_4 (cl : CT) (lm : Nat × Nat) (Q : QT) (E : ET) (x0 : Option Nat) (x1 : Option Nat) (x2 : Option Nat) (x3 : Int32) (x4 : Option Nat) (h : HS) : Prop := ∃ a_1 : Nat, x4 = some a_1 ∧ ((hT h a_1 = 9) ∧ (∀ r_2 : Option Nat, r_2 = hR h 27 a_1 → (∃ a_3 : Nat, r_2 = some a_3 ∧ ((hT h a_3 = 10) ∧ (∀ x_4 : Int32, x_4 = hI h 31 a_3 → ((hT h a_1 = 9) ∧ (∀ r_5 : Option Nat, r_5 = hR h 27 a_1 → (cl 51 [va_rf x0, va_rf x2, .int x3, va_rf r_5] h (gR (fun r_7 h_6 => ∃ a_10 : Nat, r_7 = some a_10 ∧ (dp_Finding_isNone cl a_10 [] h_6 (gI (fun r_12 h_11 => ((r_12 = 0 → ((hT h_11 a_1 = 9) ∧ (∀ r_16 : Option Nat, r_16 = hR h_11 27 a_1 → (cl 51 [va_rf x1, va_rf x2, .int x3, va_rf r_16] h_11 (gR (fun r_18 h_17 => wb_X0_lambda_eitherLook_4_47 cl lm Q E (some a_1) x_4 (some a_10) r_18 h_17)) E)))) ∧ (¬ r_12 = 0 → (wb_X0_lambda_eitherLook_4_47 cl lm Q E (some a_1) x_4 (some a_10) (some a_10) h_11))))) E))) E))))))))
theorem wx_X0_lambda_eitherLook_4 {l : Launch} (hst : l.stackTraces = false) {G : GG} {cl : CT} {lm : Nat × Nat} {Q : QT} {E : ET} {d2 : Nat} (hCl : CallsOK l G d2 cl ∧ hLm G lm ∧ 8 ≤ d2 ∧ LamsOK l G d2 cl) {x0 : Option Nat} {x1 : Option Nat} {x2 : Option Nat} {x3 : Int32} {x4 : Option Nat} {h : HS} (hw : wb_X0_lambda_eitherLook_4 cl lm Q E x0 x1 x2 x3 x4 h) : HMet l G yX0_lambda_eitherLook_4 (ws_ yX0_lambda_eitherLook_4 cX0_lambda_eitherLook_4 8 ((Option.none : Option Jvm.ClassFile.FieldType))) (d2 + 1) [va_rf x0, va_rf x1, va_rf x2, .int x3, va_rf x4] h Q E := by
  refine gh_met (own := RX0) rfl (by decide +kernel) hst (by simp only [lg_sl_i, lg_sl_r, lg_sl_a, lg_sl_2, lg_sl_f, lg_sl_0]; decide) (fun X hXl hXn hret hnm hTb h0 eh C S0 => ?_)
  subst hXl
  have hlm := hCl.2.1
  have hd8 := hCl.2.2.1
  have hd2 : 1 ≤ d2 := Nat.le_trans (by decide) hd8
  have hLa := hCl.2.2.2
  have hd1 : 1 ≤ d2 + 1 := Nat.le_add_left _ _
  have hC9 := hCl
  replace hCl := hCl.1
  have hini : True := trivial
  unfold wb_X0_lambda_eitherLook_4 at hw
  refine GK.sub (lv' := [(0, va_rf x0), (1, va_rf x1), (2, va_rf x2), (3, .int x3), (4, va_rf x4)]) [0, 1, 2, 3, 4] (by simp only [lv_args_i, lv_args_r, lv_args_a, lv_args_l, lv_args_f, lv_args_0]; rfl) ?_
  refine gk_qload (pc := 0) C.1 4 dX0_lambda_eitherLook_4_0 rfl ?_
  obtain ⟨a_1, rfl, hw⟩ := hw
  obtain ⟨ht, hw⟩ := hw
  refine gf_X0_475 (pc := 2) C ht dX0_lambda_eitherLook_4_2 (fun r_2 er_2 => ?_)
  replace hw := hw r_2 er_2
  obtain ⟨a_3, rfl, hw⟩ := hw
  obtain ⟨ht, hw⟩ := hw
  refine gf_X0_479 (pc := 5) C ht dX0_lambda_eitherLook_4_5 ?_
  obtain ⟨x_4, ex_4⟩ : ∃ z : Int32, z = hI h 31 a_3 := ⟨_, rfl⟩
  rw [← ex_4]
  replace hw := hw x_4 ex_4
  refine gk_istore (pc := 8) (lv' := [(5, Value.int x_4), (0, va_rf x0), (1, va_rf x1), (2, va_rf x2), (3, Value.int x3), (4, Value.ref a_1)]) C.1 dX0_lambda_eitherLook_4_8 (by rw [hXn]; decide) (by first | rfl | simp [va_rf_S, va_rf_cat, cat_i, cat_a, cat_l, cat_f, fin4_0, fin4_1, fin4_2, fin4_3]) ?_
  refine gk_qload_n (pc := 10) C.1 1 dX0_lambda_eitherLook_4_10 rfl rfl ?_
  refine gk_qload_n (pc := 11) C.1 3 dX0_lambda_eitherLook_4_11 rfl rfl ?_
  refine gk_iload_n (pc := 12) C.1 4 dX0_lambda_eitherLook_4_12 rfl rfl ?_
  refine gk_aload (pc := 13) C.1 5 dX0_lambda_eitherLook_4_13 rfl ?_
  obtain ⟨ht, hw⟩ := hw
  refine gf_X0_475 (pc := 15) C ht dX0_lambda_eitherLook_4_15 (fun r_5 er_5 => ?_)
  replace hw := hw r_5 er_5
  refine gc_X0_482 (pc := 18) (As := [va_rf x0, va_rf x2, .int x3, va_rf r_5]) (rest := []) C hCl (Nat.le_refl _) hw rfl rfl (Nat.le_of_ble_eq_true rfl) dX0_lambda_eitherLook_4_18 (fun v9 h_6 hp => ?_) (fun q_8 h_9 hw ht9 => ?_)
  rotate_left
  · exact gx_out C S0 (by rw [hTb]; decide) ht9 hw
  clear hw
  obtain ⟨r_7, rfl, hw⟩ := hp
  refine GK.at (p2 := 21) rfl ?_
  refine gk_qstore (pc := 21) (lv' := [(6, va_rf r_7), (5, Value.int x_4), (0, va_rf x0), (1, va_rf x1), (2, va_rf x2), (3, Value.int x3), (4, Value.ref a_1)]) C.1 dX0_lambda_eitherLook_4_21 (by rw [hXn]; decide) (by first | rfl | simp [va_rf_S, va_rf_cat, cat_i, cat_a, cat_l, cat_f, fin4_0, fin4_1, fin4_2, fin4_3]) ?_
  refine gk_qload (pc := 23) C.1 0 dX0_lambda_eitherLook_4_23 rfl ?_
  obtain ⟨a_10, rfl, hw⟩ := hw
  refine gc_X0_293 (pc := 25) (As := []) (rest := []) C hCl (Nat.le_refl _) hw rfl rfl (Nat.le_of_ble_eq_true rfl) dX0_lambda_eitherLook_4_25 (fun v9 h_11 hp => ?_) (fun q_13 h_14 hw ht9 => ?_)
  rotate_left
  · exact gx_out C S0 (by rw [hTb]; decide) ht9 hw
  clear hw
  obtain ⟨r_12, rfl, hw⟩ := hp
  refine GK.at (p2 := 28) rfl ?_
  refine gk_if_eq (pc := 28) (tgt := 36) C.1 dX0_lambda_eitherLook_4_28 (by decide) (fun c_15 => ?_) (fun c_15 => ?_)
  · replace hw := hw.1 c_15
    refine gk_qload_n (pc := 36) C.1 3 dX0_lambda_eitherLook_4_36 rfl rfl ?_
    refine gk_qload_n (pc := 37) C.1 4 dX0_lambda_eitherLook_4_37 rfl rfl ?_
    refine gk_iload_n (pc := 38) C.1 5 dX0_lambda_eitherLook_4_38 rfl rfl ?_
    refine gk_aload (pc := 39) C.1 6 dX0_lambda_eitherLook_4_39 rfl ?_
    obtain ⟨ht, hw⟩ := hw
    refine gf_X0_475 (pc := 41) C ht dX0_lambda_eitherLook_4_41 (fun r_16 er_16 => ?_)
    replace hw := hw r_16 er_16
    refine gc_X0_482 (pc := 44) (As := [va_rf x1, va_rf x2, .int x3, va_rf r_16]) (rest := []) C hCl (Nat.le_refl _) hw rfl rfl (Nat.le_of_ble_eq_true rfl) dX0_lambda_eitherLook_4_44 (fun v9 h_17 hp => ?_) (fun q_19 h_20 hw ht9 => ?_)
    rotate_left
    · exact gx_out C S0 (by rw [hTb]; decide) ht9 hw
    clear hw
    obtain ⟨r_18, rfl, hw⟩ := hp
    refine GK.at (p2 := 47) rfl ?_
    refine GK.sub (lv' := [(4, va_rf (some a_1)), (5, .int x_4), (6, va_rf (some a_10))]) [6, 1, 0] rfl ?_
    exact wk_X0_lambda_eitherLook_4_47 C hC9 S0 hret hXn hini hTb  _ _ _ _ _ hw
  · replace hw := hw.2 c_15
    refine gk_aload (pc := 31) C.1 0 dX0_lambda_eitherLook_4_31 rfl ?_
    refine gk_goto (pc := 33) (tgt := 47) C.1 dX0_lambda_eitherLook_4_33 (by decide) ?_
    refine GK.sub (lv' := [(4, va_rf (some a_1)), (5, .int x_4), (6, va_rf (some a_10))]) [6, 1, 0] rfl ?_
    exact wk_X0_lambda_eitherLook_4_47 C hC9 S0 hret hXn hini hTb  _ _ _ _ _ hw
/-! 86: GathersAllFaults.lambda$listLook$2(IILGathersAllFaults$Look;LGathersAllFaults$Value;ILGathersAllFaults$Finding;)V -/
def wb_X0_lambda_listLook_2_54 (cl : CT) (lm : Nat × Nat) (Q : QT) (E : ET) : Nat → Option Nat → Int32 → Option Nat → Option Nat → Int32 → HS → Prop
  | 0 => fun _ _ _ _ _ _ => False
  | n + 1 => fun x2 x4 x5 x6 x7 h => ∃ a_1 : Nat, x6 = some a_1 ∧ (dp_Lst_many cl a_1 [] h (gI (fun r_3 h_2 => ((r_3 ≤ x7 → (Q none h_2)) ∧ (¬ r_3 ≤ x7 → ((hT h_2 a_1 = 5) ∧ (∀ r_7 : Option Nat, r_7 = hR h_2 20 a_1 → (∃ a_8 : Nat, r_7 = some a_8 ∧ (hT h_2 a_8 = 114 ∧ (vp_in x7 (hN h_2 a_8) ∧ (∀ r_9 : Option Nat, r_9 = hB h_2 a_8 x7.toNatClampNeg → (∃ a_10 : Nat, x2 = some a_10 ∧ (dl_Look cl a_10 [va_rf r_9, .int ((((10 * x4) + 1) + 5) + x7), va_rf x5] h_2 (gV (fun h_11 => ∀ x_14 : Int32, x_14 = x7 + 1 → (wb_X0_lambda_listLook_2_54 cl lm Q E n (some a_10) x4 x5 (some a_1) x_14 h_11))) E)))))))))))) E)
theorem wk_X0_lambda_listLook_2_54 {X : Ev} {G : GG} {cl : CT} {lm : Nat × Nat} {Q : QT} {E : ET} {h0 : HS} {d2 : Nat} (C : HC X G RX0 cX0_lambda_listLook_2 (d2 + 1)) (hCl : CallsOK (ev_l X) G d2 cl ∧ hLm G lm ∧ 8 ≤ d2 ∧ LamsOK (ev_l X) G d2 cl) (S0 : HS0 X h0) (hret : (ev_h X).sig.returnType = (Option.none : Option Jvm.ClassFile.FieldType)) (hXn : ev_n X = 8) (hini : True) (hTb : (ev_c X).exceptionTable.toList = []) : ∀ (n : Nat) (x2 : Option Nat) (x4 : Int32) (x5 : Option Nat) (x6 : Option Nat) (x7 : Int32) (h : HS), wb_X0_lambda_listLook_2_54 cl lm Q E n x2 x4 x5 x6 x7 h → GH X G h (hQ X G h0 Q E) 54 [(2, va_rf x2), (4, .int x4), (5, va_rf x5), (6, va_rf x6), (7, .int x7)] [] := by
  have hlm := hCl.2.1
  have hd8 := hCl.2.2.1
  have hd2 : 1 ≤ d2 := Nat.le_trans (by decide) hd8
  have hLa := hCl.2.2.2
  have hd1 : 1 ≤ d2 + 1 := Nat.le_add_left _ _
  have hC9 := hCl
  replace hCl := hCl.1
  intro n
  induction n with
  | zero => intro x2 x4 x5 x6 x7 h hw; exact hw.elim
  | succ n ih =>
  intro x2 x4 x5 x6 x7 h hw
  unfold wb_X0_lambda_listLook_2_54 at hw
  refine gk_iload (pc := 54) C.1 4 dX0_lambda_listLook_2_54 rfl ?_
  refine gk_qload (pc := 56) C.1 3 dX0_lambda_listLook_2_56 rfl ?_
  obtain ⟨a_1, rfl, hw⟩ := hw
  refine gc_X0_325 (pc := 58) (As := []) (rest := [.int x7]) C hCl (Nat.le_refl _) hw rfl rfl (Nat.le_of_ble_eq_true rfl) dX0_lambda_listLook_2_58 (fun v9 h_2 hp => ?_) (fun q_4 h_5 hw ht9 => ?_)
  rotate_left
  · exact gx_out C S0 (by rw [hTb]; decide) ht9 hw
  clear hw
  obtain ⟨r_3, rfl, hw⟩ := hp
  refine GK.at (p2 := 61) rfl ?_
  refine gk_icmp_ge (pc := 61) (tgt := 98) C.1 dX0_lambda_listLook_2_61 (by decide) (fun c_6 => ?_) (fun c_6 => ?_)
  · replace hw := hw.1 c_6
    exact gh_vret (pc := 98) C S0 hret dX0_lambda_listLook_2_98 hw
  · replace hw := hw.2 c_6
    refine gk_qload_n (pc := 64) C.1 0 dX0_lambda_listLook_2_64 rfl rfl ?_
    refine gk_aload (pc := 65) C.1 3 dX0_lambda_listLook_2_65 rfl ?_
    obtain ⟨ht, hw⟩ := hw
    refine gf_X0_215 (pc := 67) C ht dX0_lambda_listLook_2_67 (fun r_7 er_7 => ?_)
    replace hw := hw r_7 er_7
    refine gk_iload (pc := 70) C.1 4 dX0_lambda_listLook_2_70 rfl ?_
    obtain ⟨a_8, rfl, hw⟩ := hw
    obtain ⟨ht, hi, hw⟩ := hw
    refine gh_aald (pc := 72) (t0 := 6) (E := "GathersAllFaults$Value") C ht (by decide) (by decide) rfl hi dX0_lambda_listLook_2_72 ?_
    obtain ⟨r_9, er_9⟩ : ∃ z : Option Nat, z = hB h_2 a_8 x7.toNatClampNeg := ⟨_, rfl⟩
    rw [← er_9]
    replace hw := hw r_9 er_9
    refine gk_bipush (pc := 73) (v := 10) C.1 dX0_lambda_listLook_2_73 (by decide) ?_
    refine gk_iload (pc := 75) C.1 1 dX0_lambda_listLook_2_75 rfl ?_
    refine gk_imul (pc := 77) C.1 dX0_lambda_listLook_2_77 ?_
    refine gk_iconst (pc := 78) (v := 1) C.1 dX0_lambda_listLook_2_78 (by decide) ?_
    refine gk_iadd (pc := 79) C.1 dX0_lambda_listLook_2_79 ?_
    refine gk_iconst (pc := 80) (v := 5) C.1 dX0_lambda_listLook_2_80 (by decide) ?_
    refine gk_iadd (pc := 81) C.1 dX0_lambda_listLook_2_81 ?_
    refine gk_iload (pc := 82) C.1 4 dX0_lambda_listLook_2_82 rfl ?_
    refine gk_iadd (pc := 84) C.1 dX0_lambda_listLook_2_84 ?_
    refine gk_qload (pc := 85) C.1 2 dX0_lambda_listLook_2_85 rfl ?_
    obtain ⟨a_10, rfl, hw⟩ := hw
    refine gcl_X0_27 (pc := 87) (As := [va_rf r_9, .int ((((10 * x4) + 1) + 5) + x7), va_rf x5]) (rest := []) C hLa (Nat.le_refl _) hw rfl rfl (Nat.le_of_ble_eq_true rfl) dX0_lambda_listLook_2_87 (fun v9 h_11 hp => ?_) (fun q_12 h_13 hw ht9 => ?_)
    rotate_left
    · exact gx_out C S0 (by rw [hTb]; decide) ht9 hw
    clear hw
    obtain ⟨rfl, hw⟩ := hp
    refine GK.at (p2 := 92) rfl ?_
    obtain ⟨x_14, ex_14⟩ : ∃ z : Int32, z = x7 + 1 := ⟨_, rfl⟩
    replace hw := hw x_14 ex_14
    refine gk_iinc (pc := 92) (v := x_14) (lv' := [(7, Value.int x_14), (2, Value.ref a_10), (4, Value.int x4), (5, va_rf x5), (6, Value.ref a_1)]) C.1 4 dX0_lambda_listLook_2_92 rfl (by rw [ex_14]; rfl) (by rw [hXn]; decide) (by first | rfl | simp [va_rf_S, va_rf_cat, cat_i, cat_a, cat_l, cat_f, fin4_0, fin4_1, fin4_2, fin4_3]) ?_
    refine gk_goto (pc := 95) (tgt := 54) C.1 dX0_lambda_listLook_2_95 (by decide) ?_
    refine GK.sub (lv' := [(2, va_rf (some a_10)), (4, .int x4), (5, va_rf x5), (6, va_rf (some a_1)), (7, .int x_14)]) [1, 2, 3, 4, 0] rfl ?_
    exact ih _ _ _ _ _ _ hw
def wb_X0_lambda_listLook_2_51 (cl : CT) (lm : Nat × Nat) (Q : QT) (E : ET) (x2 : Option Nat) (x4 : Int32) (x5 : Option Nat) (x6 : Option Nat) (h : HS) : Prop := ∃ fu : Nat, wb_X0_lambda_listLook_2_54 cl lm Q E fu x2 x4 x5 x6 0 h
theorem wk_X0_lambda_listLook_2_51 {X : Ev} {G : GG} {cl : CT} {lm : Nat × Nat} {Q : QT} {E : ET} {h0 : HS} {d2 : Nat} (C : HC X G RX0 cX0_lambda_listLook_2 (d2 + 1)) (hCl : CallsOK (ev_l X) G d2 cl ∧ hLm G lm ∧ 8 ≤ d2 ∧ LamsOK (ev_l X) G d2 cl) (S0 : HS0 X h0) (hret : (ev_h X).sig.returnType = (Option.none : Option Jvm.ClassFile.FieldType)) (hXn : ev_n X = 8) (hini : True) (hTb : (ev_c X).exceptionTable.toList = []) : ∀ (x2 : Option Nat) (x4 : Int32) (x5 : Option Nat) (x6 : Option Nat) (h : HS), wb_X0_lambda_listLook_2_51 cl lm Q E x2 x4 x5 x6 h → GH X G h (hQ X G h0 Q E) 51 [(2, va_rf x2), (4, .int x4), (5, va_rf x5), (6, va_rf x6)] [] := by
  have hlm := hCl.2.1
  have hd8 := hCl.2.2.1
  have hd2 : 1 ≤ d2 := Nat.le_trans (by decide) hd8
  have hLa := hCl.2.2.2
  have hd1 : 1 ≤ d2 + 1 := Nat.le_add_left _ _
  have hC9 := hCl
  replace hCl := hCl.1
  intro x2 x4 x5 x6 h hw
  unfold wb_X0_lambda_listLook_2_51 at hw
  refine gk_iconst (pc := 51) (v := 0) C.1 dX0_lambda_listLook_2_51 (by decide) ?_
  refine gk_istore (pc := 52) (lv' := [(7, Value.int 0), (2, va_rf x2), (4, Value.int x4), (5, va_rf x5), (6, va_rf x6)]) C.1 dX0_lambda_listLook_2_52 (by rw [hXn]; decide) (by first | rfl | simp [va_rf_S, va_rf_cat, cat_i, cat_a, cat_l, cat_f, fin4_0, fin4_1, fin4_2, fin4_3]) ?_
  refine GK.sub (lv' := [(2, va_rf x2), (4, .int x4), (5, va_rf x5), (6, va_rf x6), (7, .int 0)]) [1, 2, 3, 4, 0] rfl ?_
  obtain ⟨n9, hw⟩ := hw
  exact wk_X0_lambda_listLook_2_54 C hC9 S0 hret hXn hini hTb  n9 _ _ _ _ _ _ hw
def wb_X0_lambda_listLook_2 (cl : CT) (lm : Nat × Nat) (Q : QT) (E : ET) (x0 : Int32) (x1 : Int32) (x2 : Option Nat) (x3 : Option Nat) (x4 : Int32) (x5 : Option Nat) (h : HS) : Prop := (∃ a_1 : Nat, x3 = some a_1 ∧ ((hT h a_1 = 5) ∧ (ck_GathersAllFaults_Lst h (some a_1) ∧ (dp_Lst_many cl a_1 [] h (gI (fun r_3 h_2 => cl 78 [.long ((r_3 : Int32).toInt64), .long ((x0 : Int32).toInt64), .long ((x1 : Int32).toInt64)] h_2 (gI (fun r_7 h_6 => ((¬ r_7 = 0 → (wb_X0_lambda_listLook_2_51 cl lm Q E x2 x4 x5 (some a_1) h_6)) ∧ (r_7 = 0 → (∃ a_11 : Nat, x5 = some a_11 ∧ (dp_Finding_finds cl a_11 [.int x4, .int 11] h_6 (gV (fun h_12 => wb_X0_lambda_listLook_2_51 cl lm Q E x2 x4 (some a_11) (some a_1) h_12)) E)))))) E)) E)))) ∨ ((∀ a_1 : Nat, x3 = some a_1 → (hT h a_1 = 2 ∨ hT h a_1 = 3 ∨ hT h a_1 = 4 ∨ hT h a_1 = 300)) ∧ (∃ a_15 : Nat, x5 = some a_15 ∧ (dp_Finding_finds cl a_15 [.int x4, .int 10] h (gV (fun h_16 => Q none h_16)) E)))
theorem wx_X0_lambda_listLook_2 {l : Launch} (hst : l.stackTraces = false) {G : GG} {cl : CT} {lm : Nat × Nat} {Q : QT} {E : ET} {d2 : Nat} (hCl : CallsOK l G d2 cl ∧ hLm G lm ∧ 8 ≤ d2 ∧ LamsOK l G d2 cl) {x0 : Int32} {x1 : Int32} {x2 : Option Nat} {x3 : Option Nat} {x4 : Int32} {x5 : Option Nat} {h : HS} (hw : wb_X0_lambda_listLook_2 cl lm Q E x0 x1 x2 x3 x4 x5 h) : HMet l G yX0_lambda_listLook_2 (ws_ yX0_lambda_listLook_2 cX0_lambda_listLook_2 8 ((Option.none : Option Jvm.ClassFile.FieldType))) (d2 + 1) [.int x0, .int x1, va_rf x2, va_rf x3, .int x4, va_rf x5] h Q E := by
  refine gh_met (own := RX0) rfl (by decide +kernel) hst (by simp only [lg_sl_i, lg_sl_r, lg_sl_a, lg_sl_2, lg_sl_f, lg_sl_0]; decide) (fun X hXl hXn hret hnm hTb h0 eh C S0 => ?_)
  subst hXl
  have hlm := hCl.2.1
  have hd8 := hCl.2.2.1
  have hd2 : 1 ≤ d2 := Nat.le_trans (by decide) hd8
  have hLa := hCl.2.2.2
  have hd1 : 1 ≤ d2 + 1 := Nat.le_add_left _ _
  have hC9 := hCl
  replace hCl := hCl.1
  have hini : True := trivial
  unfold wb_X0_lambda_listLook_2 at hw
  refine GK.sub (lv' := [(0, .int x0), (1, .int x1), (2, va_rf x2), (3, va_rf x3), (4, .int x4), (5, va_rf x5)]) [0, 1, 2, 3, 4, 5] (by simp only [lv_args_i, lv_args_r, lv_args_a, lv_args_l, lv_args_f, lv_args_0]; rfl) ?_
  refine gk_qload_n (pc := 0) C.1 3 dX0_lambda_listLook_2_0 rfl rfl ?_
  rcases hw with ⟨a_1, rfl, hs, hw⟩ | ⟨hs, hw⟩
  · skip
    refine gi_X0_213_y (pc := 1) C hs dX0_lambda_listLook_2_1 ?_
    refine gk_if_eq (pc := 4) (tgt := 16) C.1 dX0_lambda_listLook_2_4 (by decide) (fun c9 => ?_) (fun c9 => ?_)
    · exact absurd c9 (by decide)
    refine gk_aload_n (pc := 7) C.1 3 dX0_lambda_listLook_2_7 rfl rfl ?_
    obtain ⟨hs, hw⟩ := hw
    refine gh_ckc (pc := 8) (r := (some a_1)) C q1546 (ck_GathersAllFaults_Lst_ok hs) dX0_lambda_listLook_2_8 ?_
    refine gk_astore (pc := 11) (lv' := [(6, Value.ref a_1), (0, Value.int x0), (1, Value.int x1), (2, va_rf x2), (3, Value.ref a_1), (4, Value.int x4), (5, va_rf x5)]) C.1 dX0_lambda_listLook_2_11 (by rw [hXn]; decide) (by first | rfl | simp [va_rf_S, va_rf_cat, cat_i, cat_a, cat_l, cat_f, fin4_0, fin4_1, fin4_2, fin4_3]) ?_
    refine gk_goto (pc := 13) (tgt := 26) C.1 dX0_lambda_listLook_2_13 (by decide) ?_
    refine gk_aload (pc := 26) C.1 0 dX0_lambda_listLook_2_26 rfl ?_
    refine gc_X0_325 (pc := 28) (As := []) (rest := []) C hCl (Nat.le_refl _) hw rfl rfl (Nat.le_of_ble_eq_true rfl) dX0_lambda_listLook_2_28 (fun v9 h_2 hp => ?_) (fun q_4 h_5 hw ht9 => ?_)
    rotate_left
    · exact gx_out C S0 (by rw [hTb]; decide) ht9 hw
    clear hw
    obtain ⟨r_3, rfl, hw⟩ := hp
    refine GK.at (p2 := 31) rfl ?_
    refine gk_i2l (pc := 31) C.1 dX0_lambda_listLook_2_31 ?_
    refine gk_iload_n (pc := 32) C.1 1 dX0_lambda_listLook_2_32 rfl rfl ?_
    refine gk_i2l (pc := 33) C.1 dX0_lambda_listLook_2_33 ?_
    refine gk_iload_n (pc := 34) C.1 2 dX0_lambda_listLook_2_34 rfl rfl ?_
    refine gk_i2l (pc := 35) C.1 dX0_lambda_listLook_2_35 ?_
    refine gc_X0_13 (pc := 36) (As := [.long ((r_3 : Int32).toInt64), .long ((x0 : Int32).toInt64), .long ((x1 : Int32).toInt64)]) (rest := []) C hCl (Nat.le_refl _) hw rfl rfl (Nat.le_of_ble_eq_true rfl) dX0_lambda_listLook_2_36 (fun v9 h_6 hp => ?_) (fun q_8 h_9 hw ht9 => ?_)
    rotate_left
    · exact gx_out C S0 (by rw [hTb]; decide) ht9 hw
    clear hw
    obtain ⟨r_7, rfl, hw⟩ := hp
    refine GK.at (p2 := 39) rfl ?_
    refine gk_if_ne (pc := 39) (tgt := 51) C.1 dX0_lambda_listLook_2_39 (by decide) (fun c_10 => ?_) (fun c_10 => ?_)
    · replace hw := hw.1 c_10
      refine GK.sub (lv' := [(2, va_rf x2), (4, .int x4), (5, va_rf x5), (6, va_rf (some a_1))]) [3, 5, 6, 0] rfl ?_
      exact wk_X0_lambda_listLook_2_51 C hC9 S0 hret hXn hini hTb  _ _ _ _ _ hw
    · replace hw := hw.2 c_10
      refine gk_qload (pc := 42) C.1 6 dX0_lambda_listLook_2_42 rfl ?_
      refine gk_iload (pc := 44) C.1 5 dX0_lambda_listLook_2_44 rfl ?_
      refine gk_bipush (pc := 46) (v := 11) C.1 dX0_lambda_listLook_2_46 (by decide) ?_
      obtain ⟨a_11, rfl, hw⟩ := hw
      refine gc_X0_494 (pc := 48) (As := [.int x4, .int 11]) (rest := []) C hCl (Nat.le_refl _) hw rfl rfl (Nat.le_of_ble_eq_true rfl) dX0_lambda_listLook_2_48 (fun v9 h_12 hp => ?_) (fun q_13 h_14 hw ht9 => ?_)
      rotate_left
      · exact gx_out C S0 (by rw [hTb]; decide) ht9 hw
      clear hw
      obtain ⟨rfl, hw⟩ := hp
      refine GK.at (p2 := 51) rfl ?_
      refine GK.sub (lv' := [(2, va_rf x2), (4, .int x4), (5, va_rf (some a_11)), (6, va_rf (some a_1))]) [3, 5, 6, 0] rfl ?_
      exact wk_X0_lambda_listLook_2_51 C hC9 S0 hret hXn hini hTb  _ _ _ _ _ hw
  · refine gi_X0_213_n (pc := 1) (r := x3) C hs dX0_lambda_listLook_2_1 ?_
    refine gk_if_eq (pc := 4) (tgt := 16) C.1 dX0_lambda_listLook_2_4 (by decide) (fun c9 => ?_) (fun c9 => ?_)
    rotate_left
    · exact absurd rfl c9
    refine gk_qload (pc := 16) C.1 5 dX0_lambda_listLook_2_16 rfl ?_
    refine gk_iload (pc := 18) C.1 4 dX0_lambda_listLook_2_18 rfl ?_
    refine gk_bipush (pc := 20) (v := 10) C.1 dX0_lambda_listLook_2_20 (by decide) ?_
    obtain ⟨a_15, rfl, hw⟩ := hw
    refine gc_X0_494 (pc := 22) (As := [.int x4, .int 10]) (rest := []) C hCl (Nat.le_refl _) hw rfl rfl (Nat.le_of_ble_eq_true rfl) dX0_lambda_listLook_2_22 (fun v9 h_16 hp => ?_) (fun q_17 h_18 hw ht9 => ?_)
    rotate_left
    · exact gx_out C S0 (by rw [hTb]; decide) ht9 hw
    clear hw
    obtain ⟨rfl, hw⟩ := hp
    refine GK.at (p2 := 25) rfl ?_
    exact gh_vret (pc := 25) C S0 hret dX0_lambda_listLook_2_25 hw
/-! 87: GathersAllFaults.lambda$numberLook$0(IILGathersAllFaults$Value;ILGathersAllFaults$Finding;)V -/
def wb_X0_lambda_numberLook_0_59 (cl : CT) (lm : Nat × Nat) (Q : QT) (E : ET) (s0 : Option Nat) (s1 : Int32) (s2 : Int32) (h : HS) : Prop := ∃ a_1 : Nat, s0 = some a_1 ∧ (dp_Finding_finds cl a_1 [.int s1, .int s2] h (gV (fun h_2 => Q none h_2)) E)
theorem wk_X0_lambda_numberLook_0_59 {X : Ev} {G : GG} {cl : CT} {lm : Nat × Nat} {Q : QT} {E : ET} {h0 : HS} {d2 : Nat} (C : HC X G RX0 cX0_lambda_numberLook_0 (d2 + 1)) (hCl : CallsOK (ev_l X) G d2 cl ∧ hLm G lm ∧ 8 ≤ d2 ∧ LamsOK (ev_l X) G d2 cl) (S0 : HS0 X h0) (hret : (ev_h X).sig.returnType = (Option.none : Option Jvm.ClassFile.FieldType)) (hXn : ev_n X = 6) (hini : True) (hTb : (ev_c X).exceptionTable.toList = []) : ∀ (s0 : Option Nat) (s1 : Int32) (s2 : Int32) (h : HS), wb_X0_lambda_numberLook_0_59 cl lm Q E s0 s1 s2 h → GH X G h (hQ X G h0 Q E) 59 [] [.int s2, .int s1, va_rf s0] := by
  have hlm := hCl.2.1
  have hd8 := hCl.2.2.1
  have hd2 : 1 ≤ d2 := Nat.le_trans (by decide) hd8
  have hLa := hCl.2.2.2
  have hd1 : 1 ≤ d2 + 1 := Nat.le_add_left _ _
  have hC9 := hCl
  replace hCl := hCl.1
  intro s0 s1 s2 h hw
  unfold wb_X0_lambda_numberLook_0_59 at hw
  obtain ⟨a_1, rfl, hw⟩ := hw
  refine gc_X0_494 (pc := 59) (As := [.int s1, .int s2]) (rest := []) C hCl (Nat.le_refl _) hw rfl rfl (Nat.le_of_ble_eq_true rfl) dX0_lambda_numberLook_0_59 (fun v9 h_2 hp => ?_) (fun q_3 h_4 hw ht9 => ?_)
  rotate_left
  · exact gx_out C S0 (by rw [hTb]; decide) ht9 hw
  clear hw
  obtain ⟨rfl, hw⟩ := hp
  refine GK.at (p2 := 62) rfl ?_
  exact gh_vret (pc := 62) C S0 hret dX0_lambda_numberLook_0_62 hw
def wb_X0_lambda_numberLook_0 (cl : CT) (lm : Nat × Nat) (Q : QT) (E : ET) (x0 : Int32) (x1 : Int32) (x2 : Option Nat) (x3 : Int32) (x4 : Option Nat) (h : HS) : Prop := (∃ a_1 : Nat, x2 = some a_1 ∧ ((hT h a_1 = 2) ∧ (ck_GathersAllFaults_Num h (some a_1) ∧ ((hT h a_1 = 2) ∧ (cl 78 [.long ((hI h 17 a_1 : Int32).toInt64), .long ((x0 : Int32).toInt64), .long ((x1 : Int32).toInt64)] h (gI (fun r_3 h_2 => ((¬ r_3 = 0 → (Q none h_2)) ∧ (r_3 = 0 → ((hT h_2 a_1 = 2) ∧ (((x0 ≤ (hI h_2 17 a_1) → (wb_X0_lambda_numberLook_0_59 cl lm Q E x4 x3 3 h_2)) ∧ (¬ x0 ≤ (hI h_2 17 a_1) → (wb_X0_lambda_numberLook_0_59 cl lm Q E x4 x3 2 h_2))))))))) E))))) ∨ ((∀ a_1 : Nat, x2 = some a_1 → (hT h a_1 = 3 ∨ hT h a_1 = 4 ∨ hT h a_1 = 5 ∨ hT h a_1 = 300)) ∧ (∃ a_8 : Nat, x4 = some a_8 ∧ (dp_Finding_finds cl a_8 [.int x3, .int 1] h (gV (fun h_9 => Q none h_9)) E)))
theorem wx_X0_lambda_numberLook_0 {l : Launch} (hst : l.stackTraces = false) {G : GG} {cl : CT} {lm : Nat × Nat} {Q : QT} {E : ET} {d2 : Nat} (hCl : CallsOK l G d2 cl ∧ hLm G lm ∧ 8 ≤ d2 ∧ LamsOK l G d2 cl) {x0 : Int32} {x1 : Int32} {x2 : Option Nat} {x3 : Int32} {x4 : Option Nat} {h : HS} (hw : wb_X0_lambda_numberLook_0 cl lm Q E x0 x1 x2 x3 x4 h) : HMet l G yX0_lambda_numberLook_0 (ws_ yX0_lambda_numberLook_0 cX0_lambda_numberLook_0 6 ((Option.none : Option Jvm.ClassFile.FieldType))) (d2 + 1) [.int x0, .int x1, va_rf x2, .int x3, va_rf x4] h Q E := by
  refine gh_met (own := RX0) rfl (by decide +kernel) hst (by simp only [lg_sl_i, lg_sl_r, lg_sl_a, lg_sl_2, lg_sl_f, lg_sl_0]; decide) (fun X hXl hXn hret hnm hTb h0 eh C S0 => ?_)
  subst hXl
  have hlm := hCl.2.1
  have hd8 := hCl.2.2.1
  have hd2 : 1 ≤ d2 := Nat.le_trans (by decide) hd8
  have hLa := hCl.2.2.2
  have hd1 : 1 ≤ d2 + 1 := Nat.le_add_left _ _
  have hC9 := hCl
  replace hCl := hCl.1
  have hini : True := trivial
  unfold wb_X0_lambda_numberLook_0 at hw
  refine GK.sub (lv' := [(0, .int x0), (1, .int x1), (2, va_rf x2), (3, .int x3), (4, va_rf x4)]) [0, 1, 2, 3, 4] (by simp only [lv_args_i, lv_args_r, lv_args_a, lv_args_l, lv_args_f, lv_args_0]; rfl) ?_
  refine gk_qload_n (pc := 0) C.1 2 dX0_lambda_numberLook_0_0 rfl rfl ?_
  rcases hw with ⟨a_1, rfl, hs, hw⟩ | ⟨hs, hw⟩
  · skip
    refine gi_X0_48_y (pc := 1) C hs dX0_lambda_numberLook_0_1 ?_
    refine gk_if_eq (pc := 4) (tgt := 16) C.1 dX0_lambda_numberLook_0_4 (by decide) (fun c9 => ?_) (fun c9 => ?_)
    · exact absurd c9 (by decide)
    refine gk_aload_n (pc := 7) C.1 2 dX0_lambda_numberLook_0_7 rfl rfl ?_
    obtain ⟨hs, hw⟩ := hw
    refine gh_ckc (pc := 8) (r := (some a_1)) C q193 (ck_GathersAllFaults_Num_ok hs) dX0_lambda_numberLook_0_8 ?_
    refine gk_astore (pc := 11) (lv' := [(5, Value.ref a_1), (0, Value.int x0), (1, Value.int x1), (2, Value.ref a_1), (3, Value.int x3), (4, va_rf x4)]) C.1 dX0_lambda_numberLook_0_11 (by rw [hXn]; decide) (by first | rfl | simp [va_rf_S, va_rf_cat, cat_i, cat_a, cat_l, cat_f, fin4_0, fin4_1, fin4_2, fin4_3]) ?_
    refine gk_goto (pc := 13) (tgt := 26) C.1 dX0_lambda_numberLook_0_13 (by decide) ?_
    refine gk_aload (pc := 26) C.1 0 dX0_lambda_numberLook_0_26 rfl ?_
    obtain ⟨ht, hw⟩ := hw
    refine gf_X0_50 (pc := 28) C ht dX0_lambda_numberLook_0_28 ?_
    refine gk_i2l (pc := 31) C.1 dX0_lambda_numberLook_0_31 ?_
    refine gk_iload_n (pc := 32) C.1 1 dX0_lambda_numberLook_0_32 rfl rfl ?_
    refine gk_i2l (pc := 33) C.1 dX0_lambda_numberLook_0_33 ?_
    refine gk_iload_n (pc := 34) C.1 2 dX0_lambda_numberLook_0_34 rfl rfl ?_
    refine gk_i2l (pc := 35) C.1 dX0_lambda_numberLook_0_35 ?_
    refine gc_X0_13 (pc := 36) (As := [.long ((hI h 17 a_1 : Int32).toInt64), .long ((x0 : Int32).toInt64), .long ((x1 : Int32).toInt64)]) (rest := []) C hCl (Nat.le_refl _) hw rfl rfl (Nat.le_of_ble_eq_true rfl) dX0_lambda_numberLook_0_36 (fun v9 h_2 hp => ?_) (fun q_4 h_5 hw ht9 => ?_)
    rotate_left
    · exact gx_out C S0 (by rw [hTb]; decide) ht9 hw
    clear hw
    obtain ⟨r_3, rfl, hw⟩ := hp
    refine GK.at (p2 := 39) rfl ?_
    refine gk_if_ne (pc := 39) (tgt := 62) C.1 dX0_lambda_numberLook_0_39 (by decide) (fun c_6 => ?_) (fun c_6 => ?_)
    · replace hw := hw.1 c_6
      exact gh_vret (pc := 62) C S0 hret dX0_lambda_numberLook_0_62 hw
    · replace hw := hw.2 c_6
      refine gk_qload (pc := 42) C.1 5 dX0_lambda_numberLook_0_42 rfl ?_
      refine gk_iload_n (pc := 44) C.1 4 dX0_lambda_numberLook_0_44 rfl rfl ?_
      refine gk_aload (pc := 45) C.1 0 dX0_lambda_numberLook_0_45 rfl ?_
      obtain ⟨ht, hw⟩ := hw
      refine gf_X0_50 (pc := 47) C ht dX0_lambda_numberLook_0_47 ?_
      refine gk_iload_n (pc := 50) C.1 1 dX0_lambda_numberLook_0_50 rfl rfl ?_
      refine gk_icmp_ge (pc := 51) (tgt := 58) C.1 dX0_lambda_numberLook_0_51 (by decide) (fun c_7 => ?_) (fun c_7 => ?_)
      · replace hw := hw.1 c_7
        refine gk_iconst (pc := 58) (v := 3) C.1 dX0_lambda_numberLook_0_58 (by decide) ?_
        refine GK.sub (lv' := []) [] rfl ?_
        exact wk_X0_lambda_numberLook_0_59 C hC9 S0 hret hXn hini hTb  _ _ _ _ hw
      · replace hw := hw.2 c_7
        refine gk_iconst (pc := 54) (v := 2) C.1 dX0_lambda_numberLook_0_54 (by decide) ?_
        refine gk_goto (pc := 55) (tgt := 59) C.1 dX0_lambda_numberLook_0_55 (by decide) ?_
        refine GK.sub (lv' := []) [] rfl ?_
        exact wk_X0_lambda_numberLook_0_59 C hC9 S0 hret hXn hini hTb  _ _ _ _ hw
  · refine gi_X0_48_n (pc := 1) (r := x2) C hs dX0_lambda_numberLook_0_1 ?_
    refine gk_if_eq (pc := 4) (tgt := 16) C.1 dX0_lambda_numberLook_0_4 (by decide) (fun c9 => ?_) (fun c9 => ?_)
    rotate_left
    · exact absurd rfl c9
    refine gk_qload (pc := 16) C.1 4 dX0_lambda_numberLook_0_16 rfl ?_
    refine gk_iload_n (pc := 18) C.1 3 dX0_lambda_numberLook_0_18 rfl rfl ?_
    refine gk_iconst (pc := 19) (v := 1) C.1 dX0_lambda_numberLook_0_19 (by decide) ?_
    obtain ⟨a_8, rfl, hw⟩ := hw
    refine gc_X0_494 (pc := 20) (As := [.int x3, .int 1]) (rest := []) C hCl (Nat.le_refl _) hw rfl rfl (Nat.le_of_ble_eq_true rfl) dX0_lambda_numberLook_0_20 (fun v9 h_9 hp => ?_) (fun q_10 h_11 hw ht9 => ?_)
    rotate_left
    · exact gx_out C S0 (by rw [hTb]; decide) ht9 hw
    clear hw
    obtain ⟨rfl, hw⟩ := hp
    refine GK.at (p2 := 23) rfl ?_
    refine gk_goto (pc := 23) (tgt := 62) C.1 dX0_lambda_numberLook_0_23 (by decide) ?_
    exact gh_vret (pc := 62) C S0 hret dX0_lambda_numberLook_0_62 hw
/-! 88: GathersAllFaults.lambda$onceLook$3(LGathersAllFaults$Look;LGathersAllFaults$Value;ILGathersAllFaults$Finding;)V -/
def wb_X0_lambda_onceLook_3_97 (cl : CT) (lm : Nat × Nat) (Q : QT) (E : ET) (J59 : Int32 → Option Nat → Int32 → Option Nat → Option Nat → Int32 → HS → Prop) (x2 : Int32) (x3 : Option Nat) (x4 : Int32) (x5 : Option Nat) (x6 : Option Nat) (x7 : Int32) (h : HS) : Prop := ∀ x_1 : Int32, x_1 = x7 + 1 → (J59 x2 x3 x4 x5 x6 x_1 h)
theorem wk_X0_lambda_onceLook_3_97 {X : Ev} {G : GG} {cl : CT} {lm : Nat × Nat} {Q : QT} {E : ET} {h0 : HS} {d2 : Nat} {J59 : Int32 → Option Nat → Int32 → Option Nat → Option Nat → Int32 → HS → Prop} (C : HC X G RX0 cX0_lambda_onceLook_3 (d2 + 1)) (hCl : CallsOK (ev_l X) G d2 cl ∧ hLm G lm ∧ 8 ≤ d2 ∧ LamsOK (ev_l X) G d2 cl) (S0 : HS0 X h0) (hret : (ev_h X).sig.returnType = (Option.none : Option Jvm.ClassFile.FieldType)) (hXn : ev_n X = 8) (hini : True) (hTb : (ev_c X).exceptionTable.toList = []) (hJ59 : ∀ (x2 : Int32) (x3 : Option Nat) (x4 : Int32) (x5 : Option Nat) (x6 : Option Nat) (x7 : Int32) (h : HS), J59 x2 x3 x4 x5 x6 x7 h → GH X G h (hQ X G h0 Q E) 59 [(2, .int x2), (3, va_rf x3), (4, .int x4), (5, va_rf x5), (6, va_rf x6), (7, .int x7)] []) : ∀ (x2 : Int32) (x3 : Option Nat) (x4 : Int32) (x5 : Option Nat) (x6 : Option Nat) (x7 : Int32) (h : HS), wb_X0_lambda_onceLook_3_97 cl lm Q E J59 x2 x3 x4 x5 x6 x7 h → GH X G h (hQ X G h0 Q E) 97 [(2, .int x2), (3, va_rf x3), (4, .int x4), (5, va_rf x5), (6, va_rf x6), (7, .int x7)] [] := by
  have hlm := hCl.2.1
  have hd8 := hCl.2.2.1
  have hd2 : 1 ≤ d2 := Nat.le_trans (by decide) hd8
  have hLa := hCl.2.2.2
  have hd1 : 1 ≤ d2 + 1 := Nat.le_add_left _ _
  have hC9 := hCl
  replace hCl := hCl.1
  intro x2 x3 x4 x5 x6 x7 h hw
  unfold wb_X0_lambda_onceLook_3_97 at hw
  obtain ⟨x_1, ex_1⟩ : ∃ z : Int32, z = x7 + 1 := ⟨_, rfl⟩
  replace hw := hw x_1 ex_1
  refine gk_iinc (pc := 97) (v := x_1) (lv' := [(7, Value.int x_1), (2, Value.int x2), (3, va_rf x3), (4, Value.int x4), (5, va_rf x5), (6, va_rf x6)]) C.1 5 dX0_lambda_onceLook_3_97 rfl (by rw [ex_1]; rfl) (by rw [hXn]; decide) (by first | rfl | simp [va_rf_S, va_rf_cat, cat_i, cat_a, cat_l, cat_f, fin4_0, fin4_1, fin4_2, fin4_3]) ?_
  refine gk_goto (pc := 100) (tgt := 59) C.1 dX0_lambda_onceLook_3_100 (by decide) ?_
  refine GK.sub (lv' := [(2, .int x2), (3, va_rf x3), (4, .int x4), (5, va_rf x5), (6, va_rf x6), (7, .int x_1)]) [1, 2, 3, 4, 5, 0] rfl ?_
  exact hJ59 _ _ _ _ _ _ _ hw
def wb_X0_lambda_onceLook_3_103 (cl : CT) (lm : Nat × Nat) (Q : QT) (E : ET) (x3 : Option Nat) (x4 : Int32) (x5 : Option Nat) (h : HS) : Prop := ∃ a_1 : Nat, x3 = some a_1 ∧ (dp_Finding_and cl a_1 [va_rf x5] h (gR (fun r_3 h_2 => ∃ a_6 : Nat, r_3 = some a_6 ∧ ((hT h_2 a_6 = 9) ∧ (∀ r_7 : Option Nat, r_7 = hR h_2 27 a_6 → (∃ a_8 : Nat, r_7 = some a_8 ∧ ((hT h_2 a_8 = 10) ∧ (∀ h_9 : HS, h_9 = sI h_2 31 a_8 x4 → (Q none h_9)))))))) E)
theorem wk_X0_lambda_onceLook_3_103 {X : Ev} {G : GG} {cl : CT} {lm : Nat × Nat} {Q : QT} {E : ET} {h0 : HS} {d2 : Nat} (C : HC X G RX0 cX0_lambda_onceLook_3 (d2 + 1)) (hCl : CallsOK (ev_l X) G d2 cl ∧ hLm G lm ∧ 8 ≤ d2 ∧ LamsOK (ev_l X) G d2 cl) (S0 : HS0 X h0) (hret : (ev_h X).sig.returnType = (Option.none : Option Jvm.ClassFile.FieldType)) (hXn : ev_n X = 8) (hini : True) (hTb : (ev_c X).exceptionTable.toList = []) : ∀ (x3 : Option Nat) (x4 : Int32) (x5 : Option Nat) (h : HS), wb_X0_lambda_onceLook_3_103 cl lm Q E x3 x4 x5 h → GH X G h (hQ X G h0 Q E) 103 [(3, va_rf x3), (4, .int x4), (5, va_rf x5)] [] := by
  have hlm := hCl.2.1
  have hd8 := hCl.2.2.1
  have hd2 : 1 ≤ d2 := Nat.le_trans (by decide) hd8
  have hLa := hCl.2.2.2
  have hd1 : 1 ≤ d2 + 1 := Nat.le_add_left _ _
  have hC9 := hCl
  replace hCl := hCl.1
  intro x3 x4 x5 h hw
  unfold wb_X0_lambda_onceLook_3_103 at hw
  refine gk_qload_n (pc := 103) C.1 0 dX0_lambda_onceLook_3_103 rfl rfl ?_
  refine gk_qload (pc := 104) C.1 2 dX0_lambda_onceLook_3_104 rfl ?_
  obtain ⟨a_1, rfl, hw⟩ := hw
  refine gc_X0_486 (pc := 106) (As := [va_rf x5]) (rest := []) C hCl (Nat.le_refl _) hw rfl rfl (Nat.le_of_ble_eq_true rfl) dX0_lambda_onceLook_3_106 (fun v9 h_2 hp => ?_) (fun q_4 h_5 hw ht9 => ?_)
  rotate_left
  · exact gx_out C S0 (by rw [hTb]; decide) ht9 hw
  clear hw
  obtain ⟨r_3, rfl, hw⟩ := hp
  refine GK.at (p2 := 109) rfl ?_
  obtain ⟨a_6, rfl, hw⟩ := hw
  obtain ⟨ht, hw⟩ := hw
  refine gf_X0_475 (pc := 109) C ht dX0_lambda_onceLook_3_109 (fun r_7 er_7 => ?_)
  replace hw := hw r_7 er_7
  refine gk_iload (pc := 112) C.1 1 dX0_lambda_onceLook_3_112 rfl ?_
  obtain ⟨a_8, rfl, hw⟩ := hw
  obtain ⟨ht, hw⟩ := hw
  refine gfp_X0_479 (pc := 114) C ht dX0_lambda_onceLook_3_114 (fun h_9 eh_9 => ?_)
  replace hw := hw h_9 eh_9
  exact gh_vret (pc := 117) C S0 hret dX0_lambda_onceLook_3_117 hw
def wb_X0_lambda_onceLook_3_59 (cl : CT) (lm : Nat × Nat) (Q : QT) (E : ET) : Nat → Int32 → Option Nat → Int32 → Option Nat → Option Nat → Int32 → HS → Prop
  | 0 => fun _ _ _ _ _ _ _ => False
  | n + 1 => fun x2 x3 x4 x5 x6 x7 h => ∃ a_1 : Nat, x6 = some a_1 ∧ (dp_Lst_many cl a_1 [] h (gI (fun r_3 h_2 => ((r_3 ≤ x7 → (wb_X0_lambda_onceLook_3_103 cl lm Q E x3 x4 x5 h_2)) ∧ (¬ r_3 ≤ x7 → (dp_Lst_isAhead cl a_1 [.int x7] h_2 (gI (fun r_8 h_7 => ((r_8 = 0 → (wb_X0_lambda_onceLook_3_97 cl lm Q E (fun yx2 yx3 yx4 yx5 yx6 yx7 yh => wb_X0_lambda_onceLook_3_59 cl lm Q E n yx2 yx3 yx4 yx5 yx6 yx7 yh) x2 x3 x4 x5 (some a_1) x7 h_7)) ∧ (¬ r_8 = 0 → (∃ a_12 : Nat, x5 = some a_12 ∧ (dp_Finding_finds cl a_12 [.int ((((10 * x2) + 1) + 5) + x7), .int 12] h_7 (gV (fun h_13 => wb_X0_lambda_onceLook_3_97 cl lm Q E (fun yx2 yx3 yx4 yx5 yx6 yx7 yh => wb_X0_lambda_onceLook_3_59 cl lm Q E n yx2 yx3 yx4 yx5 yx6 yx7 yh) x2 x3 x4 (some a_12) (some a_1) x7 h_13)) E)))))) E))))) E)
theorem wk_X0_lambda_onceLook_3_59 {X : Ev} {G : GG} {cl : CT} {lm : Nat × Nat} {Q : QT} {E : ET} {h0 : HS} {d2 : Nat} (C : HC X G RX0 cX0_lambda_onceLook_3 (d2 + 1)) (hCl : CallsOK (ev_l X) G d2 cl ∧ hLm G lm ∧ 8 ≤ d2 ∧ LamsOK (ev_l X) G d2 cl) (S0 : HS0 X h0) (hret : (ev_h X).sig.returnType = (Option.none : Option Jvm.ClassFile.FieldType)) (hXn : ev_n X = 8) (hini : True) (hTb : (ev_c X).exceptionTable.toList = []) : ∀ (n : Nat) (x2 : Int32) (x3 : Option Nat) (x4 : Int32) (x5 : Option Nat) (x6 : Option Nat) (x7 : Int32) (h : HS), wb_X0_lambda_onceLook_3_59 cl lm Q E n x2 x3 x4 x5 x6 x7 h → GH X G h (hQ X G h0 Q E) 59 [(2, .int x2), (3, va_rf x3), (4, .int x4), (5, va_rf x5), (6, va_rf x6), (7, .int x7)] [] := by
  have hlm := hCl.2.1
  have hd8 := hCl.2.2.1
  have hd2 : 1 ≤ d2 := Nat.le_trans (by decide) hd8
  have hLa := hCl.2.2.2
  have hd1 : 1 ≤ d2 + 1 := Nat.le_add_left _ _
  have hC9 := hCl
  replace hCl := hCl.1
  intro n
  induction n with
  | zero => intro x2 x3 x4 x5 x6 x7 h hw; exact hw.elim
  | succ n ih =>
  intro x2 x3 x4 x5 x6 x7 h hw
  unfold wb_X0_lambda_onceLook_3_59 at hw
  refine gk_iload (pc := 59) C.1 5 dX0_lambda_onceLook_3_59 rfl ?_
  refine gk_qload (pc := 61) C.1 4 dX0_lambda_onceLook_3_61 rfl ?_
  obtain ⟨a_1, rfl, hw⟩ := hw
  refine gc_X0_325 (pc := 63) (As := []) (rest := [.int x7]) C hCl (Nat.le_refl _) hw rfl rfl (Nat.le_of_ble_eq_true rfl) dX0_lambda_onceLook_3_63 (fun v9 h_2 hp => ?_) (fun q_4 h_5 hw ht9 => ?_)
  rotate_left
  · exact gx_out C S0 (by rw [hTb]; decide) ht9 hw
  clear hw
  obtain ⟨r_3, rfl, hw⟩ := hp
  refine GK.at (p2 := 66) rfl ?_
  refine gk_icmp_ge (pc := 66) (tgt := 103) C.1 dX0_lambda_onceLook_3_66 (by decide) (fun c_6 => ?_) (fun c_6 => ?_)
  · replace hw := hw.1 c_6
    refine GK.sub (lv' := [(3, va_rf x3), (4, .int x4), (5, va_rf x5)]) [1, 2, 3] rfl ?_
    exact wk_X0_lambda_onceLook_3_103 C hC9 S0 hret hXn hini hTb  _ _ _ _ hw
  · replace hw := hw.2 c_6
    refine gk_aload (pc := 69) C.1 4 dX0_lambda_onceLook_3_69 rfl ?_
    refine gk_iload (pc := 71) C.1 5 dX0_lambda_onceLook_3_71 rfl ?_
    refine gc_X0_490 (pc := 73) (As := [.int x7]) (rest := []) C hCl (Nat.le_refl _) hw rfl rfl (Nat.le_of_ble_eq_true rfl) dX0_lambda_onceLook_3_73 (fun v9 h_7 hp => ?_) (fun q_9 h_10 hw ht9 => ?_)
    rotate_left
    · exact gx_out C S0 (by rw [hTb]; decide) ht9 hw
    clear hw
    obtain ⟨r_8, rfl, hw⟩ := hp
    refine GK.at (p2 := 76) rfl ?_
    refine gk_if_eq (pc := 76) (tgt := 97) C.1 dX0_lambda_onceLook_3_76 (by decide) (fun c_11 => ?_) (fun c_11 => ?_)
    · replace hw := hw.1 c_11
      refine GK.sub (lv' := [(2, .int x2), (3, va_rf x3), (4, .int x4), (5, va_rf x5), (6, va_rf (some a_1)), (7, .int x7)]) [0, 1, 2, 3, 4, 5] rfl ?_
      exact wk_X0_lambda_onceLook_3_97 C hC9 S0 hret hXn hini hTb ih _ _ _ _ _ _ _ hw
    · replace hw := hw.2 c_11
      refine gk_qload (pc := 79) C.1 3 dX0_lambda_onceLook_3_79 rfl ?_
      refine gk_bipush (pc := 81) (v := 10) C.1 dX0_lambda_onceLook_3_81 (by decide) ?_
      refine gk_iload_n (pc := 83) C.1 0 dX0_lambda_onceLook_3_83 rfl rfl ?_
      refine gk_imul (pc := 84) C.1 dX0_lambda_onceLook_3_84 ?_
      refine gk_iconst (pc := 85) (v := 1) C.1 dX0_lambda_onceLook_3_85 (by decide) ?_
      refine gk_iadd (pc := 86) C.1 dX0_lambda_onceLook_3_86 ?_
      refine gk_iconst (pc := 87) (v := 5) C.1 dX0_lambda_onceLook_3_87 (by decide) ?_
      refine gk_iadd (pc := 88) C.1 dX0_lambda_onceLook_3_88 ?_
      refine gk_iload (pc := 89) C.1 5 dX0_lambda_onceLook_3_89 rfl ?_
      refine gk_iadd (pc := 91) C.1 dX0_lambda_onceLook_3_91 ?_
      refine gk_bipush (pc := 92) (v := 12) C.1 dX0_lambda_onceLook_3_92 (by decide) ?_
      obtain ⟨a_12, rfl, hw⟩ := hw
      refine gc_X0_494 (pc := 94) (As := [.int ((((10 * x2) + 1) + 5) + x7), .int 12]) (rest := []) C hCl (Nat.le_refl _) hw rfl rfl (Nat.le_of_ble_eq_true rfl) dX0_lambda_onceLook_3_94 (fun v9 h_13 hp => ?_) (fun q_14 h_15 hw ht9 => ?_)
      rotate_left
      · exact gx_out C S0 (by rw [hTb]; decide) ht9 hw
      clear hw
      obtain ⟨rfl, hw⟩ := hp
      refine GK.at (p2 := 97) rfl ?_
      refine GK.sub (lv' := [(2, .int x2), (3, va_rf x3), (4, .int x4), (5, va_rf (some a_12)), (6, va_rf (some a_1)), (7, .int x7)]) [0, 1, 2, 3, 4, 5] rfl ?_
      exact wk_X0_lambda_onceLook_3_97 C hC9 S0 hret hXn hini hTb ih _ _ _ _ _ _ _ hw
def wb_X0_lambda_onceLook_3 (cl : CT) (lm : Nat × Nat) (Q : QT) (E : ET) (x0 : Option Nat) (x1 : Option Nat) (x2 : Int32) (x3 : Option Nat) (h : HS) : Prop := ∃ a_1 : Nat, x3 = some a_1 ∧ ((hT h a_1 = 9) ∧ (∀ r_2 : Option Nat, r_2 = hR h 27 a_1 → (∃ a_3 : Nat, r_2 = some a_3 ∧ ((hT h a_3 = 10) ∧ (∀ x_4 : Int32, x_4 = hI h 31 a_3 → ((hT h a_1 = 9) ∧ (∀ r_5 : Option Nat, r_5 = hR h 27 a_1 → (cl 51 [va_rf x0, va_rf x1, .int x2, va_rf r_5] h (gR (fun r_7 h_6 => ∃ a_10 : Nat, r_7 = some a_10 ∧ (dp_Finding_isNone cl a_10 [] h_6 (gI (fun r_12 h_11 => ((¬ r_12 = 0 → ((∃ a_16 : Nat, x1 = some a_16 ∧ ((hT h_11 a_16 = 5) ∧ (ck_GathersAllFaults_Lst h_11 (some a_16) ∧ (∃ fu : Nat, wb_X0_lambda_onceLook_3_59 cl lm Q E fu x2 (some a_1) x_4 (some a_10) (some a_16) 0 h_11)))) ∨ ((∀ a_16 : Nat, x1 = some a_16 → (hT h_11 a_16 = 2 ∨ hT h_11 a_16 = 3 ∨ hT h_11 a_16 = 4 ∨ hT h_11 a_16 = 300)) ∧ (wb_X0_lambda_onceLook_3_103 cl lm Q E (some a_1) x_4 (some a_10) h_11)))) ∧ (r_12 = 0 → ((hT h_11 a_10 = 9) ∧ ((hT h_11 a_10 = 9) ∧ (∀ h_17 : HS, h_17 = sI h_11 29 a_10 ((hI h_11 29 a_10) + 1) → (wb_X0_lambda_onceLook_3_103 cl lm Q E (some a_1) x_4 (some a_10) h_17)))))))) E))) E))))))))
theorem wx_X0_lambda_onceLook_3 {l : Launch} (hst : l.stackTraces = false) {G : GG} {cl : CT} {lm : Nat × Nat} {Q : QT} {E : ET} {d2 : Nat} (hCl : CallsOK l G d2 cl ∧ hLm G lm ∧ 8 ≤ d2 ∧ LamsOK l G d2 cl) {x0 : Option Nat} {x1 : Option Nat} {x2 : Int32} {x3 : Option Nat} {h : HS} (hw : wb_X0_lambda_onceLook_3 cl lm Q E x0 x1 x2 x3 h) : HMet l G yX0_lambda_onceLook_3 (ws_ yX0_lambda_onceLook_3 cX0_lambda_onceLook_3 8 ((Option.none : Option Jvm.ClassFile.FieldType))) (d2 + 1) [va_rf x0, va_rf x1, .int x2, va_rf x3] h Q E := by
  refine gh_met (own := RX0) rfl (by decide +kernel) hst (by simp only [lg_sl_i, lg_sl_r, lg_sl_a, lg_sl_2, lg_sl_f, lg_sl_0]; decide) (fun X hXl hXn hret hnm hTb h0 eh C S0 => ?_)
  subst hXl
  have hlm := hCl.2.1
  have hd8 := hCl.2.2.1
  have hd2 : 1 ≤ d2 := Nat.le_trans (by decide) hd8
  have hLa := hCl.2.2.2
  have hd1 : 1 ≤ d2 + 1 := Nat.le_add_left _ _
  have hC9 := hCl
  replace hCl := hCl.1
  have hini : True := trivial
  unfold wb_X0_lambda_onceLook_3 at hw
  refine GK.sub (lv' := [(0, va_rf x0), (1, va_rf x1), (2, .int x2), (3, va_rf x3)]) [0, 1, 2, 3] (by simp only [lv_args_i, lv_args_r, lv_args_a, lv_args_l, lv_args_f, lv_args_0]; rfl) ?_
  refine gk_qload_n (pc := 0) C.1 3 dX0_lambda_onceLook_3_0 rfl rfl ?_
  obtain ⟨a_1, rfl, hw⟩ := hw
  obtain ⟨ht, hw⟩ := hw
  refine gf_X0_475 (pc := 1) C ht dX0_lambda_onceLook_3_1 (fun r_2 er_2 => ?_)
  replace hw := hw r_2 er_2
  obtain ⟨a_3, rfl, hw⟩ := hw
  obtain ⟨ht, hw⟩ := hw
  refine gf_X0_479 (pc := 4) C ht dX0_lambda_onceLook_3_4 ?_
  obtain ⟨x_4, ex_4⟩ : ∃ z : Int32, z = hI h 31 a_3 := ⟨_, rfl⟩
  rw [← ex_4]
  replace hw := hw x_4 ex_4
  refine gk_istore (pc := 7) (lv' := [(4, Value.int x_4), (0, va_rf x0), (1, va_rf x1), (2, Value.int x2), (3, Value.ref a_1)]) C.1 dX0_lambda_onceLook_3_7 (by rw [hXn]; decide) (by first | rfl | simp [va_rf_S, va_rf_cat, cat_i, cat_a, cat_l, cat_f, fin4_0, fin4_1, fin4_2, fin4_3]) ?_
  refine gk_qload_n (pc := 9) C.1 1 dX0_lambda_onceLook_3_9 rfl rfl ?_
  refine gk_qload_n (pc := 10) C.1 2 dX0_lambda_onceLook_3_10 rfl rfl ?_
  refine gk_iload_n (pc := 11) C.1 3 dX0_lambda_onceLook_3_11 rfl rfl ?_
  refine gk_aload_n (pc := 12) C.1 4 dX0_lambda_onceLook_3_12 rfl rfl ?_
  obtain ⟨ht, hw⟩ := hw
  refine gf_X0_475 (pc := 13) C ht dX0_lambda_onceLook_3_13 (fun r_5 er_5 => ?_)
  replace hw := hw r_5 er_5
  refine gc_X0_482 (pc := 16) (As := [va_rf x0, va_rf x1, .int x2, va_rf r_5]) (rest := []) C hCl (Nat.le_refl _) hw rfl rfl (Nat.le_of_ble_eq_true rfl) dX0_lambda_onceLook_3_16 (fun v9 h_6 hp => ?_) (fun q_8 h_9 hw ht9 => ?_)
  rotate_left
  · exact gx_out C S0 (by rw [hTb]; decide) ht9 hw
  clear hw
  obtain ⟨r_7, rfl, hw⟩ := hp
  refine GK.at (p2 := 19) rfl ?_
  refine gk_qstore (pc := 19) (lv' := [(5, va_rf r_7), (4, Value.int x_4), (0, va_rf x0), (1, va_rf x1), (2, Value.int x2), (3, Value.ref a_1)]) C.1 dX0_lambda_onceLook_3_19 (by rw [hXn]; decide) (by first | rfl | simp [va_rf_S, va_rf_cat, cat_i, cat_a, cat_l, cat_f, fin4_0, fin4_1, fin4_2, fin4_3]) ?_
  refine gk_qload (pc := 21) C.1 0 dX0_lambda_onceLook_3_21 rfl ?_
  obtain ⟨a_10, rfl, hw⟩ := hw
  refine gc_X0_293 (pc := 23) (As := []) (rest := []) C hCl (Nat.le_refl _) hw rfl rfl (Nat.le_of_ble_eq_true rfl) dX0_lambda_onceLook_3_23 (fun v9 h_11 hp => ?_) (fun q_13 h_14 hw ht9 => ?_)
  rotate_left
  · exact gx_out C S0 (by rw [hTb]; decide) ht9 hw
  clear hw
  obtain ⟨r_12, rfl, hw⟩ := hp
  refine GK.at (p2 := 26) rfl ?_
  refine gk_if_ne (pc := 26) (tgt := 43) C.1 dX0_lambda_onceLook_3_26 (by decide) (fun c_15 => ?_) (fun c_15 => ?_)
  · replace hw := hw.1 c_15
    refine gk_qload_n (pc := 43) C.1 3 dX0_lambda_onceLook_3_43 rfl rfl ?_
    rcases hw with ⟨a_16, rfl, hs, hw⟩ | ⟨hs, hw⟩
    · skip
      refine gi_X0_213_y (pc := 44) C hs dX0_lambda_onceLook_3_44 ?_
      refine gk_if_eq (pc := 47) (tgt := 103) C.1 dX0_lambda_onceLook_3_47 (by decide) (fun c9 => ?_) (fun c9 => ?_)
      · exact absurd c9 (by decide)
      refine gk_aload_n (pc := 50) C.1 3 dX0_lambda_onceLook_3_50 rfl rfl ?_
      obtain ⟨hs, hw⟩ := hw
      refine gh_ckc (pc := 51) (r := (some a_16)) C q1546 (ck_GathersAllFaults_Lst_ok hs) dX0_lambda_onceLook_3_51 ?_
      refine gk_astore (pc := 54) (lv' := [(6, Value.ref a_16), (5, Value.ref a_10), (4, Value.int x_4), (0, va_rf x0), (1, Value.ref a_16), (2, Value.int x2), (3, Value.ref a_1)]) C.1 dX0_lambda_onceLook_3_54 (by rw [hXn]; decide) (by first | rfl | simp [va_rf_S, va_rf_cat, cat_i, cat_a, cat_l, cat_f, fin4_0, fin4_1, fin4_2, fin4_3]) ?_
      refine gk_iconst (pc := 56) (v := 0) C.1 dX0_lambda_onceLook_3_56 (by decide) ?_
      refine gk_istore (pc := 57) (lv' := [(7, Value.int 0), (6, Value.ref a_16), (5, Value.ref a_10), (4, Value.int x_4), (0, va_rf x0), (1, Value.ref a_16), (2, Value.int x2), (3, Value.ref a_1)]) C.1 dX0_lambda_onceLook_3_57 (by rw [hXn]; decide) (by first | rfl | simp [va_rf_S, va_rf_cat, cat_i, cat_a, cat_l, cat_f, fin4_0, fin4_1, fin4_2, fin4_3]) ?_
      refine GK.sub (lv' := [(2, .int x2), (3, va_rf (some a_1)), (4, .int x_4), (5, va_rf (some a_10)), (6, va_rf (some a_16)), (7, .int 0)]) [6, 7, 3, 2, 1, 0] rfl ?_
      obtain ⟨n9, hw⟩ := hw
      exact wk_X0_lambda_onceLook_3_59 C hC9 S0 hret hXn hini hTb  n9 _ _ _ _ _ _ _ hw
    · refine gi_X0_213_n (pc := 44) (r := x1) C hs dX0_lambda_onceLook_3_44 ?_
      refine gk_if_eq (pc := 47) (tgt := 103) C.1 dX0_lambda_onceLook_3_47 (by decide) (fun c9 => ?_) (fun c9 => ?_)
      rotate_left
      · exact absurd rfl c9
      refine GK.sub (lv' := [(3, va_rf (some a_1)), (4, .int x_4), (5, va_rf (some a_10))]) [5, 1, 0] rfl ?_
      exact wk_X0_lambda_onceLook_3_103 C hC9 S0 hret hXn hini hTb  _ _ _ _ hw
  · replace hw := hw.2 c_15
    refine gk_aload (pc := 29) C.1 0 dX0_lambda_onceLook_3_29 rfl ?_
    refine gk_dup (pc := 31) C.1 dX0_lambda_onceLook_3_31 rfl ?_
    obtain ⟨ht, hw⟩ := hw
    refine gf_X0_384 (pc := 32) C ht dX0_lambda_onceLook_3_32 ?_
    refine gk_iconst (pc := 35) (v := 1) C.1 dX0_lambda_onceLook_3_35 (by decide) ?_
    refine gk_iadd (pc := 36) C.1 dX0_lambda_onceLook_3_36 ?_
    obtain ⟨ht, hw⟩ := hw
    refine gfp_X0_384 (pc := 37) C ht dX0_lambda_onceLook_3_37 (fun h_17 eh_17 => ?_)
    replace hw := hw h_17 eh_17
    refine gk_goto (pc := 40) (tgt := 103) C.1 dX0_lambda_onceLook_3_40 (by decide) ?_
    refine GK.sub (lv' := [(3, va_rf (some a_1)), (4, .int x_4), (5, va_rf (some a_10))]) [5, 1, 0] rfl ?_
    exact wk_X0_lambda_onceLook_3_103 C hC9 S0 hret hXn hini hTb  _ _ _ _ hw
/-! 89: GathersAllFaults.lambda$thereLook$1(LGathersAllFaults$Look;ZLGathersAllFaults$Value;ILGathersAllFaults$Finding;)V -/
def wb_X0_lambda_thereLook_1 (cl : CT) (lm : Nat × Nat) (Q : QT) (E : ET) (x0 : Option Nat) (x1 : Int32) (x2 : Option Nat) (x3 : Int32) (x4 : Option Nat) (h : HS) : Prop := (∃ a_1 : Nat, x2 = some a_1 ∧ ((hT h a_1 = 3) ∧ (((x1 = 0 → (Q none h)) ∧ (¬ x1 = 0 → (∃ a_3 : Nat, x4 = some a_3 ∧ (dp_Finding_finds cl a_3 [.int x3, .int 4] h (gV (fun h_4 => Q none h_4)) E))))))) ∨ ((∀ a_1 : Nat, x2 = some a_1 → (hT h a_1 = 2 ∨ hT h a_1 = 4 ∨ hT h a_1 = 5 ∨ hT h a_1 = 300)) ∧ (∃ a_7 : Nat, x0 = some a_7 ∧ (dl_Look cl a_7 [va_rf x2, .int x3, va_rf x4] h (gV (fun h_8 => Q none h_8)) E)))
theorem wx_X0_lambda_thereLook_1 {l : Launch} (hst : l.stackTraces = false) {G : GG} {cl : CT} {lm : Nat × Nat} {Q : QT} {E : ET} {d2 : Nat} (hCl : CallsOK l G d2 cl ∧ hLm G lm ∧ 8 ≤ d2 ∧ LamsOK l G d2 cl) {x0 : Option Nat} {x1 : Int32} {x2 : Option Nat} {x3 : Int32} {x4 : Option Nat} {h : HS} (hw : wb_X0_lambda_thereLook_1 cl lm Q E x0 x1 x2 x3 x4 h) : HMet l G yX0_lambda_thereLook_1 (ws_ yX0_lambda_thereLook_1 cX0_lambda_thereLook_1 5 ((Option.none : Option Jvm.ClassFile.FieldType))) (d2 + 1) [va_rf x0, .int x1, va_rf x2, .int x3, va_rf x4] h Q E := by
  refine gh_met (own := RX0) rfl (by decide +kernel) hst (by simp only [lg_sl_i, lg_sl_r, lg_sl_a, lg_sl_2, lg_sl_f, lg_sl_0]; decide) (fun X hXl hXn hret hnm hTb h0 eh C S0 => ?_)
  subst hXl
  have hlm := hCl.2.1
  have hd8 := hCl.2.2.1
  have hd2 : 1 ≤ d2 := Nat.le_trans (by decide) hd8
  have hLa := hCl.2.2.2
  have hd1 : 1 ≤ d2 + 1 := Nat.le_add_left _ _
  have hC9 := hCl
  replace hCl := hCl.1
  have hini : True := trivial
  unfold wb_X0_lambda_thereLook_1 at hw
  refine GK.sub (lv' := [(0, va_rf x0), (1, .int x1), (2, va_rf x2), (3, .int x3), (4, va_rf x4)]) [0, 1, 2, 3, 4] (by simp only [lv_args_i, lv_args_r, lv_args_a, lv_args_l, lv_args_f, lv_args_0]; rfl) ?_
  refine gk_qload_n (pc := 0) C.1 2 dX0_lambda_thereLook_1_0 rfl rfl ?_
  rcases hw with ⟨a_1, rfl, hs, hw⟩ | ⟨hs, hw⟩
  · skip
    refine gi_X0_93_y (pc := 1) C hs dX0_lambda_thereLook_1_1 ?_
    refine gk_if_ne (pc := 4) (tgt := 20) C.1 dX0_lambda_thereLook_1_4 (by decide) (fun c9 => ?_) (fun c9 => ?_)
    rotate_left
    · exact absurd c9 (by decide)
    refine gk_iload_n (pc := 20) C.1 1 dX0_lambda_thereLook_1_20 rfl rfl ?_
    refine gk_if_eq (pc := 21) (tgt := 31) C.1 dX0_lambda_thereLook_1_21 (by decide) (fun c_2 => ?_) (fun c_2 => ?_)
    · replace hw := hw.1 c_2
      exact gh_vret (pc := 31) C S0 hret dX0_lambda_thereLook_1_31 hw
    · replace hw := hw.2 c_2
      refine gk_qload (pc := 24) C.1 4 dX0_lambda_thereLook_1_24 rfl ?_
      refine gk_iload_n (pc := 26) C.1 3 dX0_lambda_thereLook_1_26 rfl rfl ?_
      refine gk_iconst (pc := 27) (v := 4) C.1 dX0_lambda_thereLook_1_27 (by decide) ?_
      obtain ⟨a_3, rfl, hw⟩ := hw
      refine gc_X0_494 (pc := 28) (As := [.int x3, .int 4]) (rest := []) C hCl (Nat.le_refl _) hw rfl rfl (Nat.le_of_ble_eq_true rfl) dX0_lambda_thereLook_1_28 (fun v9 h_4 hp => ?_) (fun q_5 h_6 hw ht9 => ?_)
      rotate_left
      · exact gx_out C S0 (by rw [hTb]; decide) ht9 hw
      clear hw
      obtain ⟨rfl, hw⟩ := hp
      refine GK.at (p2 := 31) rfl ?_
      exact gh_vret (pc := 31) C S0 hret dX0_lambda_thereLook_1_31 hw
  · refine gi_X0_93_n (pc := 1) (r := x2) C hs dX0_lambda_thereLook_1_1 ?_
    refine gk_if_ne (pc := 4) (tgt := 20) C.1 dX0_lambda_thereLook_1_4 (by decide) (fun c9 => ?_) (fun c9 => ?_)
    · exact absurd rfl c9
    refine gk_qload_n (pc := 7) C.1 0 dX0_lambda_thereLook_1_7 rfl rfl ?_
    refine gk_qload_n (pc := 8) C.1 2 dX0_lambda_thereLook_1_8 rfl rfl ?_
    refine gk_iload_n (pc := 9) C.1 3 dX0_lambda_thereLook_1_9 rfl rfl ?_
    refine gk_qload (pc := 10) C.1 4 dX0_lambda_thereLook_1_10 rfl ?_
    obtain ⟨a_7, rfl, hw⟩ := hw
    refine gcl_X0_27 (pc := 12) (As := [va_rf x2, .int x3, va_rf x4]) (rest := []) C hLa (Nat.le_refl _) hw rfl rfl (Nat.le_of_ble_eq_true rfl) dX0_lambda_thereLook_1_12 (fun v9 h_8 hp => ?_) (fun q_9 h_10 hw ht9 => ?_)
    rotate_left
    · exact gx_out C S0 (by rw [hTb]; decide) ht9 hw
    clear hw
    obtain ⟨rfl, hw⟩ := hp
    refine GK.at (p2 := 17) rfl ?_
    refine gk_goto (pc := 17) (tgt := 31) C.1 dX0_lambda_thereLook_1_17 (by decide) ?_
    exact gh_vret (pc := 31) C S0 hret dX0_lambda_thereLook_1_31 hw
/-! 90: GathersAllFaults.letter(I)I -/
def wb_X0_letter (cl : CT) (lm : Nat × Nat) (Q : QT) (E : ET) (x0 : Nat) (x1 : Int32) (h : HS) : Prop := dp_GathersAllFaults_act cl x0 [.int 0, .int x1, .int 0, .int 0] h (gI (fun r_2 h_1 => Q (some (.int r_2)) h_1)) E
theorem wx_X0_letter {l : Launch} (hst : l.stackTraces = false) {G : GG} {cl : CT} {lm : Nat × Nat} {Q : QT} {E : ET} {d2 : Nat} (hCl : CallsOK l G d2 cl ∧ hLm G lm ∧ 8 ≤ d2 ∧ LamsOK l G d2 cl) {x0 : Nat} {x1 : Int32} {h : HS} (hw : wb_X0_letter cl lm Q E x0 x1 h) : HMet l G yX0_letter (ws_ yX0_letter cX0_letter 2 ((Option.some Jvm.ClassFile.FieldType.int))) (d2 + 1) [.ref x0, .int x1] h Q E := by
  refine gh_met (own := RX0) rfl (by decide +kernel) hst (by simp only [lg_sl_i, lg_sl_r, lg_sl_a, lg_sl_2, lg_sl_f, lg_sl_0]; decide) (fun X hXl hXn hret hnm hTb h0 eh C S0 => ?_)
  subst hXl
  have hlm := hCl.2.1
  have hd8 := hCl.2.2.1
  have hd2 : 1 ≤ d2 := Nat.le_trans (by decide) hd8
  have hLa := hCl.2.2.2
  have hd1 : 1 ≤ d2 + 1 := Nat.le_add_left _ _
  have hC9 := hCl
  replace hCl := hCl.1
  have hini : True := trivial
  unfold wb_X0_letter at hw
  refine GK.sub (lv' := [(0, .ref x0), (1, .int x1)]) [0, 1] (by simp only [lv_args_i, lv_args_r, lv_args_a, lv_args_l, lv_args_f, lv_args_0]; rfl) ?_
  refine gk_aload_n (pc := 0) C.1 0 dX0_letter_0 rfl rfl ?_
  refine gk_iconst (pc := 1) (v := 0) C.1 dX0_letter_1 (by decide) ?_
  refine gk_iload_n (pc := 2) C.1 1 dX0_letter_2 rfl rfl ?_
  refine gk_iconst (pc := 3) (v := 0) C.1 dX0_letter_3 (by decide) ?_
  refine gk_iconst (pc := 4) (v := 0) C.1 dX0_letter_4 (by decide) ?_
  refine gc_X0_455 (pc := 5) (As := [.int 0, .int x1, .int 0, .int 0]) (rest := []) C hCl (Nat.le_refl _) hw rfl rfl (Nat.le_of_ble_eq_true rfl) dX0_letter_5 (fun v9 h_1 hp => ?_) (fun q_3 h_4 hw ht9 => ?_)
  rotate_left
  · exact gx_out C S0 (by rw [hTb]; decide) ht9 hw
  clear hw
  obtain ⟨r_2, rfl, hw⟩ := hp
  refine GK.at (p2 := 8) rfl ?_
  exact gh_iret (pc := 8) C S0 hret dX0_letter_8 hw
/-! 91: GathersAllFaults.letterIt(I)I -/
def wb_X0_letterIt_23 (cl : CT) (lm : Nat × Nat) (Q : QT) (E : ET) (x0 : Nat) (x1 : Int32) (s0 : Int32) (h : HS) : Prop := cl 104 [.int s0, .int (-6)] h (gV (fun h_1 => (hT h_1 x0 = 1) ∧ (∀ r_4 : Option Nat, r_4 = hR h_1 7 x0 → ((hT h_1 x0 = 1) ∧ (∃ a_5 : Nat, r_4 = some a_5 ∧ (hT h_1 a_5 = 103 ∧ (vp_in (hI h_1 8 x0) (hN h_1 a_5) ∧ (∀ h_6 : HS, h_6 = sA h_1 a_5 (hI h_1 8 x0).toNatClampNeg (vp_nar .char (((x1).toUInt32 % 65536).toInt32)) → ((hT h_6 x0 = 1) ∧ ((hT h_6 x0 = 1) ∧ (∀ h_7 : HS, h_7 = sI h_6 8 x0 ((hI h_6 8 x0) + 1) → ((hT h_7 x0 = 1) ∧ (Q (some (.int (hI h_7 8 x0))) h_7))))))))))))) E
theorem wk_X0_letterIt_23 {X : Ev} {G : GG} {cl : CT} {lm : Nat × Nat} {Q : QT} {E : ET} {h0 : HS} {d2 : Nat} (C : HC X G RX0 cX0_letterIt (d2 + 1)) (hCl : CallsOK (ev_l X) G d2 cl ∧ hLm G lm ∧ 8 ≤ d2 ∧ LamsOK (ev_l X) G d2 cl) (S0 : HS0 X h0) (hret : (ev_h X).sig.returnType = (Option.some Jvm.ClassFile.FieldType.int)) (hXn : ev_n X = 2) (hini : True) (hTb : (ev_c X).exceptionTable.toList = []) : ∀ (x0 : Nat) (x1 : Int32) (s0 : Int32) (h : HS), wb_X0_letterIt_23 cl lm Q E x0 x1 s0 h → GH X G h (hQ X G h0 Q E) 23 [(0, .ref x0), (1, .int x1)] [.int s0] := by
  have hlm := hCl.2.1
  have hd8 := hCl.2.2.1
  have hd2 : 1 ≤ d2 := Nat.le_trans (by decide) hd8
  have hLa := hCl.2.2.2
  have hd1 : 1 ≤ d2 + 1 := Nat.le_add_left _ _
  have hC9 := hCl
  replace hCl := hCl.1
  intro x0 x1 s0 h hw
  unfold wb_X0_letterIt_23 at hw
  refine gk_bipush (pc := 23) (v := (-6)) C.1 dX0_letterIt_23 (by decide) ?_
  refine gc_X0_9 (pc := 25) (As := [.int s0, .int (-6)]) (rest := []) C hCl (Nat.le_refl _) hw rfl rfl (Nat.le_of_ble_eq_true rfl) dX0_letterIt_25 (fun v9 h_1 hp => ?_) (fun q_2 h_3 hw ht9 => ?_)
  rotate_left
  · exact gx_out C S0 (by rw [hTb]; decide) ht9 hw
  clear hw
  obtain ⟨rfl, hw⟩ := hp
  refine GK.at (p2 := 28) rfl ?_
  refine gk_aload_n (pc := 28) C.1 0 dX0_letterIt_28 rfl rfl ?_
  obtain ⟨ht, hw⟩ := hw
  refine gf_X0_81 (pc := 29) C ht dX0_letterIt_29 (fun r_4 er_4 => ?_)
  replace hw := hw r_4 er_4
  refine gk_aload_n (pc := 32) C.1 0 dX0_letterIt_32 rfl rfl ?_
  obtain ⟨ht, hw⟩ := hw
  refine gf_X0_123 (pc := 33) C ht dX0_letterIt_33 ?_
  refine gk_iload_n (pc := 36) C.1 1 dX0_letterIt_36 rfl rfl ?_
  refine gk_i2c (pc := 37) C.1 dX0_letterIt_37 ?_
  obtain ⟨a_5, rfl, hw⟩ := hw
  obtain ⟨ht, hi, hw⟩ := hw
  refine gh_cast (pc := 38) C ht hi dX0_letterIt_38 ?_
  obtain ⟨h_6, eh_6⟩ : ∃ z : HS, z = sA h_1 a_5 (hI h_1 8 x0).toNatClampNeg (vp_nar .char (((x1).toUInt32 % 65536).toInt32)) := ⟨_, rfl⟩
  rw [← eh_6]
  replace hw := hw h_6 eh_6
  refine gk_aload_n (pc := 39) C.1 0 dX0_letterIt_39 rfl rfl ?_
  refine gk_dup (pc := 40) C.1 dX0_letterIt_40 rfl ?_
  obtain ⟨ht, hw⟩ := hw
  refine gf_X0_123 (pc := 41) C ht dX0_letterIt_41 ?_
  refine gk_iconst (pc := 44) (v := 1) C.1 dX0_letterIt_44 (by decide) ?_
  refine gk_iadd (pc := 45) C.1 dX0_letterIt_45 ?_
  obtain ⟨ht, hw⟩ := hw
  refine gfp_X0_123 (pc := 46) C ht dX0_letterIt_46 (fun h_7 eh_7 => ?_)
  replace hw := hw h_7 eh_7
  refine gk_aload_n (pc := 49) C.1 0 dX0_letterIt_49 rfl rfl ?_
  obtain ⟨ht, hw⟩ := hw
  refine gf_X0_123 (pc := 50) C ht dX0_letterIt_50 ?_
  exact gh_iret (pc := 53) C S0 hret dX0_letterIt_53 hw
def wb_X0_letterIt (cl : CT) (lm : Nat × Nat) (Q : QT) (E : ET) (x0 : Nat) (x1 : Int32) (h : HS) : Prop := cl 141 [.long ((x1 : Int32).toInt64), .long 0, .long 255] h (gV (fun h_1 => (hT h_1 x0 = 1) ∧ (((96 ≤ (hI h_1 8 x0) → (wb_X0_letterIt_23 cl lm Q E x0 x1 0 h_1)) ∧ (¬ 96 ≤ (hI h_1 8 x0) → (wb_X0_letterIt_23 cl lm Q E x0 x1 1 h_1)))))) E
theorem wx_X0_letterIt {l : Launch} (hst : l.stackTraces = false) {G : GG} {cl : CT} {lm : Nat × Nat} {Q : QT} {E : ET} {d2 : Nat} (hCl : CallsOK l G d2 cl ∧ hLm G lm ∧ 8 ≤ d2 ∧ LamsOK l G d2 cl) {x0 : Nat} {x1 : Int32} {h : HS} (hw : wb_X0_letterIt cl lm Q E x0 x1 h) : HMet l G yX0_letterIt (ws_ yX0_letterIt cX0_letterIt 2 ((Option.some Jvm.ClassFile.FieldType.int))) (d2 + 1) [.ref x0, .int x1] h Q E := by
  refine gh_met (own := RX0) rfl (by decide +kernel) hst (by simp only [lg_sl_i, lg_sl_r, lg_sl_a, lg_sl_2, lg_sl_f, lg_sl_0]; decide) (fun X hXl hXn hret hnm hTb h0 eh C S0 => ?_)
  subst hXl
  have hlm := hCl.2.1
  have hd8 := hCl.2.2.1
  have hd2 : 1 ≤ d2 := Nat.le_trans (by decide) hd8
  have hLa := hCl.2.2.2
  have hd1 : 1 ≤ d2 + 1 := Nat.le_add_left _ _
  have hC9 := hCl
  replace hCl := hCl.1
  have hini : True := trivial
  unfold wb_X0_letterIt at hw
  refine GK.sub (lv' := [(0, .ref x0), (1, .int x1)]) [0, 1] (by simp only [lv_args_i, lv_args_r, lv_args_a, lv_args_l, lv_args_f, lv_args_0]; rfl) ?_
  refine gk_iload_n (pc := 0) C.1 1 dX0_letterIt_0 rfl rfl ?_
  refine gk_i2l (pc := 1) C.1 dX0_letterIt_1 ?_
  refine gk_lconst (pc := 2) (v := 0) C.1 dX0_letterIt_2 (by decide) ?_
  refine gk_ldc2 (pc := 3) (v := 255) C.1 q336 dX0_letterIt_3 ?_
  refine gc_X0_184 (pc := 6) (As := [.long ((x1 : Int32).toInt64), .long 0, .long 255]) (rest := []) C hCl (Nat.le_refl _) hw rfl rfl (Nat.le_of_ble_eq_true rfl) dX0_letterIt_6 (fun v9 h_1 hp => ?_) (fun q_2 h_3 hw ht9 => ?_)
  rotate_left
  · exact gx_out C S0 (by rw [hTb]; decide) ht9 hw
  clear hw
  obtain ⟨rfl, hw⟩ := hp
  refine GK.at (p2 := 9) rfl ?_
  refine gk_aload_n (pc := 9) C.1 0 dX0_letterIt_9 rfl rfl ?_
  obtain ⟨ht, hw⟩ := hw
  refine gf_X0_123 (pc := 10) C ht dX0_letterIt_10 ?_
  refine gk_bipush (pc := 13) (v := 96) C.1 dX0_letterIt_13 (by decide) ?_
  refine gk_icmp_ge (pc := 15) (tgt := 22) C.1 dX0_letterIt_15 (by decide) (fun c_4 => ?_) (fun c_4 => ?_)
  · replace hw := hw.1 c_4
    refine gk_iconst (pc := 22) (v := 0) C.1 dX0_letterIt_22 (by decide) ?_
    refine GK.sub (lv' := [(0, .ref x0), (1, .int x1)]) [0, 1] rfl ?_
    exact wk_X0_letterIt_23 C hC9 S0 hret hXn hini hTb  _ _ _ _ hw
  · replace hw := hw.2 c_4
    refine gk_iconst (pc := 18) (v := 1) C.1 dX0_letterIt_18 (by decide) ?_
    refine gk_goto (pc := 19) (tgt := 23) C.1 dX0_letterIt_19 (by decide) ?_
    refine GK.sub (lv' := [(0, .ref x0), (1, .int x1)]) [0, 1] rfl ?_
    exact wk_X0_letterIt_23 C hC9 S0 hret hXn hini hTb  _ _ _ _ hw
/-! 92: GathersAllFaults.limited(II)I -/
def wb_X0_limited (cl : CT) (lm : Nat × Nat) (Q : QT) (E : ET) (x0 : Nat) (x1 : Int32) (x2 : Int32) (h : HS) : Prop := dp_GathersAllFaults_act cl x0 [.int 13, .int x1, .int x2, .int 0] h (gI (fun r_2 h_1 => Q (some (.int r_2)) h_1)) E
theorem wx_X0_limited {l : Launch} (hst : l.stackTraces = false) {G : GG} {cl : CT} {lm : Nat × Nat} {Q : QT} {E : ET} {d2 : Nat} (hCl : CallsOK l G d2 cl ∧ hLm G lm ∧ 8 ≤ d2 ∧ LamsOK l G d2 cl) {x0 : Nat} {x1 : Int32} {x2 : Int32} {h : HS} (hw : wb_X0_limited cl lm Q E x0 x1 x2 h) : HMet l G yX0_limited (ws_ yX0_limited cX0_limited 3 ((Option.some Jvm.ClassFile.FieldType.int))) (d2 + 1) [.ref x0, .int x1, .int x2] h Q E := by
  refine gh_met (own := RX0) rfl (by decide +kernel) hst (by simp only [lg_sl_i, lg_sl_r, lg_sl_a, lg_sl_2, lg_sl_f, lg_sl_0]; decide) (fun X hXl hXn hret hnm hTb h0 eh C S0 => ?_)
  subst hXl
  have hlm := hCl.2.1
  have hd8 := hCl.2.2.1
  have hd2 : 1 ≤ d2 := Nat.le_trans (by decide) hd8
  have hLa := hCl.2.2.2
  have hd1 : 1 ≤ d2 + 1 := Nat.le_add_left _ _
  have hC9 := hCl
  replace hCl := hCl.1
  have hini : True := trivial
  unfold wb_X0_limited at hw
  refine GK.sub (lv' := [(0, .ref x0), (1, .int x1), (2, .int x2)]) [0, 1, 2] (by simp only [lv_args_i, lv_args_r, lv_args_a, lv_args_l, lv_args_f, lv_args_0]; rfl) ?_
  refine gk_aload_n (pc := 0) C.1 0 dX0_limited_0 rfl rfl ?_
  refine gk_bipush (pc := 1) (v := 13) C.1 dX0_limited_1 (by decide) ?_
  refine gk_iload_n (pc := 3) C.1 1 dX0_limited_3 rfl rfl ?_
  refine gk_iload_n (pc := 4) C.1 2 dX0_limited_4 rfl rfl ?_
  refine gk_iconst (pc := 5) (v := 0) C.1 dX0_limited_5 (by decide) ?_
  refine gc_X0_455 (pc := 6) (As := [.int 13, .int x1, .int x2, .int 0]) (rest := []) C hCl (Nat.le_refl _) hw rfl rfl (Nat.le_of_ble_eq_true rfl) dX0_limited_6 (fun v9 h_1 hp => ?_) (fun q_3 h_4 hw ht9 => ?_)
  rotate_left
  · exact gx_out C S0 (by rw [hTb]; decide) ht9 hw
  clear hw
  obtain ⟨r_2, rfl, hw⟩ := hp
  refine GK.at (p2 := 9) rfl ?_
  exact gh_iret (pc := 9) C S0 hret dX0_limited_9 hw
/-! 93: GathersAllFaults.limitedTold(II)I -/
def wb_X0_limitedTold (cl : CT) (lm : Nat × Nat) (Q : QT) (E : ET) (x0 : Nat) (x1 : Int32) (x2 : Int32) (h : HS) : Prop := cl 141 [.long ((x1 : Int32).toInt64), .long 0, .long 99] h (gV (fun h_1 => cl 105 [.int x2] h_1 (gV (fun h_4 => dp_GathersAllFaults_found cl x0 [] h_4 (gR (fun r_8 h_7 => ∃ a_11 : Nat, r_8 = some a_11 ∧ ((hT h_7 a_11 = 9) ∧ (∀ r_12 : Option Nat, r_12 = hR h_7 28 a_11 → (∃ a_13 : Nat, r_12 = some a_13 ∧ ((hT h_7 a_13 = 7) ∧ (∀ x_14 : Int32, x_14 = (if (hI h_7 24 a_13) < x1 then (hI h_7 24 a_13) else x1) → (((¬ x2 = 0 → (((¬ x_14 = 0 → (dp_Row_at cl a_13 [.int (x_14 - 1)] h_7 (gR (fun r_18 h_17 => ck_GathersAllFaults_Found h_17 r_18 ∧ (∃ a_21 : Nat, r_18 = some a_21 ∧ (dp_Found_told cl a_21 [] h_17 (gI (fun r_23 h_22 => Q (some (.int r_23)) h_22)) E)))) E)) ∧ (x_14 = 0 → (Q (some (.int (-9))) h_7))))) ∧ (x2 = 0 → (Q (some (.int x_14)) h_7))))))))))) E)) E)) E
theorem wx_X0_limitedTold {l : Launch} (hst : l.stackTraces = false) {G : GG} {cl : CT} {lm : Nat × Nat} {Q : QT} {E : ET} {d2 : Nat} (hCl : CallsOK l G d2 cl ∧ hLm G lm ∧ 8 ≤ d2 ∧ LamsOK l G d2 cl) {x0 : Nat} {x1 : Int32} {x2 : Int32} {h : HS} (hw : wb_X0_limitedTold cl lm Q E x0 x1 x2 h) : HMet l G yX0_limitedTold (ws_ yX0_limitedTold cX0_limitedTold 5 ((Option.some Jvm.ClassFile.FieldType.int))) (d2 + 1) [.ref x0, .int x1, .int x2] h Q E := by
  refine gh_met (own := RX0) rfl (by decide +kernel) hst (by simp only [lg_sl_i, lg_sl_r, lg_sl_a, lg_sl_2, lg_sl_f, lg_sl_0]; decide) (fun X hXl hXn hret hnm hTb h0 eh C S0 => ?_)
  subst hXl
  have hlm := hCl.2.1
  have hd8 := hCl.2.2.1
  have hd2 : 1 ≤ d2 := Nat.le_trans (by decide) hd8
  have hLa := hCl.2.2.2
  have hd1 : 1 ≤ d2 + 1 := Nat.le_add_left _ _
  have hC9 := hCl
  replace hCl := hCl.1
  have hini : True := trivial
  unfold wb_X0_limitedTold at hw
  refine GK.sub (lv' := [(0, .ref x0), (1, .int x1), (2, .int x2)]) [0, 1, 2] (by simp only [lv_args_i, lv_args_r, lv_args_a, lv_args_l, lv_args_f, lv_args_0]; rfl) ?_
  refine gk_iload_n (pc := 0) C.1 1 dX0_limitedTold_0 rfl rfl ?_
  refine gk_i2l (pc := 1) C.1 dX0_limitedTold_1 ?_
  refine gk_lconst (pc := 2) (v := 0) C.1 dX0_limitedTold_2 (by decide) ?_
  refine gk_ldc2 (pc := 3) (v := 99) C.1 q1673 dX0_limitedTold_3 ?_
  refine gc_X0_184 (pc := 6) (As := [.long ((x1 : Int32).toInt64), .long 0, .long 99]) (rest := []) C hCl (Nat.le_refl _) hw rfl rfl (Nat.le_of_ble_eq_true rfl) dX0_limitedTold_6 (fun v9 h_1 hp => ?_) (fun q_2 h_3 hw ht9 => ?_)
  rotate_left
  · exact gx_out C S0 (by rw [hTb]; decide) ht9 hw
  clear hw
  obtain ⟨rfl, hw⟩ := hp
  refine GK.at (p2 := 9) rfl ?_
  refine gk_iload_n (pc := 9) C.1 2 dX0_limitedTold_9 rfl rfl ?_
  refine gc_X0_226 (pc := 10) (As := [.int x2]) (rest := []) C hCl (Nat.le_refl _) hw rfl rfl (Nat.le_of_ble_eq_true rfl) dX0_limitedTold_10 (fun v9 h_4 hp => ?_) (fun q_5 h_6 hw ht9 => ?_)
  rotate_left
  · exact gx_out C S0 (by rw [hTb]; decide) ht9 hw
  clear hw
  obtain ⟨rfl, hw⟩ := hp
  refine GK.at (p2 := 13) rfl ?_
  refine gk_aload_n (pc := 13) C.1 0 dX0_limitedTold_13 rfl rfl ?_
  refine gc_X0_229 (pc := 14) (As := []) (rest := []) C hCl (Nat.le_refl _) hw rfl rfl (Nat.le_of_ble_eq_true rfl) dX0_limitedTold_14 (fun v9 h_7 hp => ?_) (fun q_9 h_10 hw ht9 => ?_)
  rotate_left
  · exact gx_out C S0 (by rw [hTb]; decide) ht9 hw
  clear hw
  obtain ⟨r_8, rfl, hw⟩ := hp
  refine GK.at (p2 := 17) rfl ?_
  obtain ⟨a_11, rfl, hw⟩ := hw
  obtain ⟨ht, hw⟩ := hw
  refine gf_X0_221 (pc := 17) C ht dX0_limitedTold_17 (fun r_12 er_12 => ?_)
  replace hw := hw r_12 er_12
  refine gk_qstore_n (pc := 20) (lv' := [(3, va_rf r_12), (0, Value.ref x0), (1, Value.int x1), (2, Value.int x2)]) C.1 dX0_limitedTold_20 rfl (by rw [hXn]; decide) (by first | rfl | simp [va_rf_S, va_rf_cat, cat_i, cat_a, cat_l, cat_f, fin4_0, fin4_1, fin4_2, fin4_3]) ?_
  refine gk_iload_n (pc := 21) C.1 2 dX0_limitedTold_21 rfl rfl ?_
  refine gk_qload_n (pc := 22) C.1 0 dX0_limitedTold_22 rfl rfl ?_
  obtain ⟨a_13, rfl, hw⟩ := hw
  obtain ⟨ht, hw⟩ := hw
  refine gf_X0_149 (pc := 23) C ht dX0_limitedTold_23 ?_
  refine gh_mmin (pc := 26) C hd1 q1756 (Nat.le_of_ble_eq_true rfl) dX0_limitedTold_26 ?_
  obtain ⟨x_14, ex_14⟩ : ∃ z : Int32, z = (if (hI h_7 24 a_13) < x1 then (hI h_7 24 a_13) else x1) := ⟨_, rfl⟩
  rw [← ex_14]
  replace hw := hw x_14 ex_14
  refine gk_istore (pc := 29) (lv' := [(4, Value.int x_14), (3, Value.ref a_13), (0, Value.ref x0), (1, Value.int x1), (2, Value.int x2)]) C.1 dX0_limitedTold_29 (by rw [hXn]; decide) (by first | rfl | simp [va_rf_S, va_rf_cat, cat_i, cat_a, cat_l, cat_f, fin4_0, fin4_1, fin4_2, fin4_3]) ?_
  refine gk_iload_n (pc := 31) C.1 4 dX0_limitedTold_31 rfl rfl ?_
  refine gk_if_ne (pc := 32) (tgt := 40) C.1 dX0_limitedTold_32 (by decide) (fun c_15 => ?_) (fun c_15 => ?_)
  · replace hw := hw.1 c_15
    refine gk_iload (pc := 40) C.1 0 dX0_limitedTold_40 rfl ?_
    refine gk_if_ne (pc := 42) (tgt := 50) C.1 dX0_limitedTold_42 (by decide) (fun c_16 => ?_) (fun c_16 => ?_)
    · replace hw := hw.1 c_16
      refine gk_aload_n (pc := 50) C.1 1 dX0_limitedTold_50 rfl rfl ?_
      refine gk_iload (pc := 51) C.1 0 dX0_limitedTold_51 rfl ?_
      refine gk_iconst (pc := 53) (v := 1) C.1 dX0_limitedTold_53 (by decide) ?_
      refine gk_isub (pc := 54) C.1 dX0_limitedTold_54 ?_
      refine gc_X0_152 (pc := 55) (As := [.int (x_14 - 1)]) (rest := []) C hCl (Nat.le_refl _) hw rfl rfl (Nat.le_of_ble_eq_true rfl) dX0_limitedTold_55 (fun v9 h_17 hp => ?_) (fun q_19 h_20 hw ht9 => ?_)
      rotate_left
      · exact gx_out C S0 (by rw [hTb]; decide) ht9 hw
      clear hw
      obtain ⟨r_18, rfl, hw⟩ := hp
      refine GK.at (p2 := 58) rfl ?_
      obtain ⟨hs, hw⟩ := hw
      refine gh_ckc (pc := 58) (r := r_18) C q1736 (ck_GathersAllFaults_Found_ok hs) dX0_limitedTold_58 ?_
      obtain ⟨a_21, rfl, hw⟩ := hw
      refine gc_X0_252 (pc := 61) (As := []) (rest := []) C hCl (Nat.le_refl _) hw rfl rfl (Nat.le_of_ble_eq_true rfl) dX0_limitedTold_61 (fun v9 h_22 hp => ?_) (fun q_24 h_25 hw ht9 => ?_)
      rotate_left
      · exact gx_out C S0 (by rw [hTb]; decide) ht9 hw
      clear hw
      obtain ⟨r_23, rfl, hw⟩ := hp
      refine GK.at (p2 := 64) rfl ?_
      exact gh_iret (pc := 64) C S0 hret dX0_limitedTold_64 hw
    · replace hw := hw.2 c_16
      refine gk_bipush (pc := 45) (v := (-9)) C.1 dX0_limitedTold_45 (by decide) ?_
      refine gk_goto (pc := 47) (tgt := 64) C.1 dX0_limitedTold_47 (by decide) ?_
      exact gh_iret (pc := 64) C S0 hret dX0_limitedTold_64 hw
  · replace hw := hw.2 c_15
    refine gk_iload (pc := 35) C.1 0 dX0_limitedTold_35 rfl ?_
    refine gk_goto (pc := 37) (tgt := 64) C.1 dX0_limitedTold_37 (by decide) ?_
    exact gh_iret (pc := 64) C S0 hret dX0_limitedTold_64 hw
/-! 94: GathersAllFaults.listLook(IILGathersAllFaults$Look;)LGathersAllFaults$Look; -/
def wb_X0_listLook (cl : CT) (lm : Nat × Nat) (Q : QT) (E : ET) (x0 : Int32) (x1 : Int32) (x2 : Option Nat) (h : HS) : Prop := hZ h + 1 ≤ lm.1 ∧ (hL h + 3 ≤ lm.2 ∧ (∀ (a_1 : Nat) (h_2 : HS), a_1 = hZ h → h_2 = sR (sI (sI (hNew h 207 0 3) 91 (hZ h) x0) 92 (hZ h) x1) 93 (hZ h) x2 → (Q (some (va_rf (some a_1))) h_2)))
theorem wx_X0_listLook {l : Launch} (hst : l.stackTraces = false) {G : GG} {cl : CT} {lm : Nat × Nat} {Q : QT} {E : ET} {d2 : Nat} (hCl : CallsOK l G d2 cl ∧ hLm G lm ∧ 8 ≤ d2 ∧ LamsOK l G d2 cl) {x0 : Int32} {x1 : Int32} {x2 : Option Nat} {h : HS} (hw : wb_X0_listLook cl lm Q E x0 x1 x2 h) : HMet l G yX0_listLook (ws_ yX0_listLook cX0_listLook 3 ((Option.some (Jvm.ClassFile.FieldType.object "GathersAllFaults$Look")))) (d2 + 1) [.int x0, .int x1, va_rf x2] h Q E := by
  refine gh_met (own := RX0) rfl (by decide +kernel) hst (by simp only [lg_sl_i, lg_sl_r, lg_sl_a, lg_sl_2, lg_sl_f, lg_sl_0]; decide) (fun X hXl hXn hret hnm hTb h0 eh C S0 => ?_)
  subst hXl
  have hlm := hCl.2.1
  have hd8 := hCl.2.2.1
  have hd2 : 1 ≤ d2 := Nat.le_trans (by decide) hd8
  have hLa := hCl.2.2.2
  have hd1 : 1 ≤ d2 + 1 := Nat.le_add_left _ _
  have hC9 := hCl
  replace hCl := hCl.1
  have hini : (ev_s X).methodNamed? yX0_listLook = some (ev_m X) := hnm.2
  unfold wb_X0_listLook at hw
  refine GK.sub (lv' := [(0, .int x0), (1, .int x1), (2, va_rf x2)]) [0, 1, 2] (by simp only [lv_args_i, lv_args_r, lv_args_a, lv_args_l, lv_args_f, lv_args_0]; rfl) ?_
  refine gk_iload_n (pc := 0) C.1 0 dX0_listLook_0 rfl rfl ?_
  refine gk_iload_n (pc := 1) C.1 1 dX0_listLook_1 rfl rfl ?_
  refine gk_qload_n (pc := 2) C.1 2 dX0_listLook_2 rfl rfl ?_
  obtain ⟨hr1, hr2, hw⟩ := hw
  refine gd_7 (v0 := x0) (v1 := x1) (r2 := x2) C hini (hlm.1 ▸ hr1) (hlm.2 ▸ hr2) (Nat.le_of_ble_eq_true rfl) dX0_listLook_3 (fun a_1 h_2 ea_1 eh_2 => ?_)
  replace hw := hw a_1 h_2 ea_1 eh_2
  exact gh_aret (pc := 8) (r := (some a_1)) C S0 hret (Or.inl ⟨_, rfl⟩) dX0_listLook_8 hw
/-! 95: GathersAllFaults.loss(II)J -/
def wb_X0_loss (cl : CT) (lm : Nat × Nat) (Q : QT) (E : ET) (x0 : Nat) (x1 : Int32) (x2 : Int32) (h : HS) : Prop := dp_GathersAllFaults_lossTold cl x0 [.int x1, .int x2] h (gL (fun r_2 h_1 => Q (some (.long r_2)) h_1)) E
theorem wx_X0_loss {l : Launch} (hst : l.stackTraces = false) {G : GG} {cl : CT} {lm : Nat × Nat} {Q : QT} {E : ET} {d2 : Nat} (hCl : CallsOK l G d2 cl ∧ hLm G lm ∧ 8 ≤ d2 ∧ LamsOK l G d2 cl) {x0 : Nat} {x1 : Int32} {x2 : Int32} {h : HS} (hw : wb_X0_loss cl lm Q E x0 x1 x2 h) : HMet l G yX0_loss (ws_ yX0_loss cX0_loss 3 ((Option.some Jvm.ClassFile.FieldType.long))) (d2 + 1) [.ref x0, .int x1, .int x2] h Q E := by
  refine gh_met (own := RX0) rfl (by decide +kernel) hst (by simp only [lg_sl_i, lg_sl_r, lg_sl_a, lg_sl_2, lg_sl_f, lg_sl_0]; decide) (fun X hXl hXn hret hnm hTb h0 eh C S0 => ?_)
  subst hXl
  have hlm := hCl.2.1
  have hd8 := hCl.2.2.1
  have hd2 : 1 ≤ d2 := Nat.le_trans (by decide) hd8
  have hLa := hCl.2.2.2
  have hd1 : 1 ≤ d2 + 1 := Nat.le_add_left _ _
  have hC9 := hCl
  replace hCl := hCl.1
  have hini : True := trivial
  unfold wb_X0_loss at hw
  refine GK.sub (lv' := [(0, .ref x0), (1, .int x1), (2, .int x2)]) [0, 1, 2] (by simp only [lv_args_i, lv_args_r, lv_args_a, lv_args_l, lv_args_f, lv_args_0]; rfl) ?_
  refine gk_aload_n (pc := 0) C.1 0 dX0_loss_0 rfl rfl ?_
  refine gk_iload_n (pc := 1) C.1 1 dX0_loss_1 rfl rfl ?_
  refine gk_iload_n (pc := 2) C.1 2 dX0_loss_2 rfl rfl ?_
  refine gc_X0_458 (pc := 3) (As := [.int x1, .int x2]) (rest := []) C hCl (Nat.le_refl _) hw rfl rfl (Nat.le_of_ble_eq_true rfl) dX0_loss_3 (fun v9 h_1 hp => ?_) (fun q_3 h_4 hw ht9 => ?_)
  rotate_left
  · exact gx_out C S0 (by rw [hTb]; decide) ht9 hw
  clear hw
  obtain ⟨r_2, rfl, hw⟩ := hp
  refine GK.at (p2 := 6) rfl ?_
  exact gh_lret (pc := 6) C S0 hret dX0_loss_6 hw
/-! 96: GathersAllFaults.lossPart(II)J -/
def wb_X0_lossPart_68 (cl : CT) (lm : Nat × Nat) (Q : QT) (E : ET) (J17 : Nat → Int32 → Int32 → Option Nat → Nat → Int32 → HS → Prop) (x0 : Nat) (x1 : Int32) (x2 : Int32) (x3 : Option Nat) (x4 : Nat) (x5 : Int32) (h : HS) : Prop := ∀ x_1 : Int32, x_1 = x5 + 1 → (J17 x0 x1 x2 x3 x4 x_1 h)
theorem wk_X0_lossPart_68 {X : Ev} {G : GG} {cl : CT} {lm : Nat × Nat} {Q : QT} {E : ET} {h0 : HS} {d2 : Nat} {J17 : Nat → Int32 → Int32 → Option Nat → Nat → Int32 → HS → Prop} (C : HC X G RX0 cX0_lossPart (d2 + 1)) (hCl : CallsOK (ev_l X) G d2 cl ∧ hLm G lm ∧ 8 ≤ d2 ∧ LamsOK (ev_l X) G d2 cl) (S0 : HS0 X h0) (hret : (ev_h X).sig.returnType = (Option.some Jvm.ClassFile.FieldType.long)) (hXn : ev_n X = 13) (hini : True) (hTb : (ev_c X).exceptionTable.toList = []) (hJ17 : ∀ (x0 : Nat) (x1 : Int32) (x2 : Int32) (x3 : Option Nat) (x4 : Nat) (x5 : Int32) (h : HS), J17 x0 x1 x2 x3 x4 x5 h → GH X G h (hQ X G h0 Q E) 17 [(0, .ref x0), (1, .int x1), (2, .int x2), (3, va_rf x3), (4, .ref x4), (5, .int x5)] []) : ∀ (x0 : Nat) (x1 : Int32) (x2 : Int32) (x3 : Option Nat) (x4 : Nat) (x5 : Int32) (h : HS), wb_X0_lossPart_68 cl lm Q E J17 x0 x1 x2 x3 x4 x5 h → GH X G h (hQ X G h0 Q E) 68 [(0, .ref x0), (1, .int x1), (2, .int x2), (3, va_rf x3), (4, .ref x4), (5, .int x5)] [] := by
  have hlm := hCl.2.1
  have hd8 := hCl.2.2.1
  have hd2 : 1 ≤ d2 := Nat.le_trans (by decide) hd8
  have hLa := hCl.2.2.2
  have hd1 : 1 ≤ d2 + 1 := Nat.le_add_left _ _
  have hC9 := hCl
  replace hCl := hCl.1
  intro x0 x1 x2 x3 x4 x5 h hw
  unfold wb_X0_lossPart_68 at hw
  obtain ⟨x_1, ex_1⟩ : ∃ z : Int32, z = x5 + 1 := ⟨_, rfl⟩
  replace hw := hw x_1 ex_1
  refine gk_iinc (pc := 68) (v := x_1) (lv' := [(5, Value.int x_1), (0, Value.ref x0), (1, Value.int x1), (2, Value.int x2), (3, va_rf x3), (4, Value.ref x4)]) C.1 5 dX0_lossPart_68 rfl (by rw [ex_1]; rfl) (by rw [hXn]; decide) (by first | rfl | simp [va_rf_S, va_rf_cat, cat_i, cat_a, cat_l, cat_f, fin4_0, fin4_1, fin4_2, fin4_3]) ?_
  refine gk_goto (pc := 71) (tgt := 17) C.1 dX0_lossPart_71 (by decide) ?_
  refine GK.sub (lv' := [(0, .ref x0), (1, .int x1), (2, .int x2), (3, va_rf x3), (4, .ref x4), (5, .int x_1)]) [1, 2, 3, 4, 5, 0] rfl ?_
  exact hJ17 _ _ _ _ _ _ _ hw
def wb_X0_lossPart_192 (cl : CT) (lm : Nat × Nat) (Q : QT) (E : ET) (J109 : Nat → Int32 → Int32 → Nat → Int64 → Int64 → Int32 → HS → Prop) (J127 : Nat → Int32 → Int32 → Nat → Int64 → Int64 → Int32 → Int64 → Int32 → HS → Prop) (x0 : Nat) (x1 : Int32) (x2 : Int32) (x4 : Nat) (x5 : Int64) (x7 : Int64) (x9 : Int32) (x10 : Int64) (x12 : Int32) (h : HS) : Prop := ∀ x_1 : Int32, x_1 = x12 + 1 → (J127 x0 x1 x2 x4 x5 x7 x9 x10 x_1 h)
theorem wk_X0_lossPart_192 {X : Ev} {G : GG} {cl : CT} {lm : Nat × Nat} {Q : QT} {E : ET} {h0 : HS} {d2 : Nat} {J109 : Nat → Int32 → Int32 → Nat → Int64 → Int64 → Int32 → HS → Prop} {J127 : Nat → Int32 → Int32 → Nat → Int64 → Int64 → Int32 → Int64 → Int32 → HS → Prop} (C : HC X G RX0 cX0_lossPart (d2 + 1)) (hCl : CallsOK (ev_l X) G d2 cl ∧ hLm G lm ∧ 8 ≤ d2 ∧ LamsOK (ev_l X) G d2 cl) (S0 : HS0 X h0) (hret : (ev_h X).sig.returnType = (Option.some Jvm.ClassFile.FieldType.long)) (hXn : ev_n X = 13) (hini : True) (hTb : (ev_c X).exceptionTable.toList = []) (hJ109 : ∀ (x0 : Nat) (x1 : Int32) (x2 : Int32) (x4 : Nat) (x5 : Int64) (x7 : Int64) (x9 : Int32) (h : HS), J109 x0 x1 x2 x4 x5 x7 x9 h → GH X G h (hQ X G h0 Q E) 109 [(0, .ref x0), (1, .int x1), (2, .int x2), (4, .ref x4), (5, .long x5), (7, .long x7), (9, .int x9)] []) (hJ127 : ∀ (x0 : Nat) (x1 : Int32) (x2 : Int32) (x4 : Nat) (x5 : Int64) (x7 : Int64) (x9 : Int32) (x10 : Int64) (x12 : Int32) (h : HS), J127 x0 x1 x2 x4 x5 x7 x9 x10 x12 h → GH X G h (hQ X G h0 Q E) 127 [(0, .ref x0), (1, .int x1), (2, .int x2), (4, .ref x4), (5, .long x5), (7, .long x7), (9, .int x9), (10, .long x10), (12, .int x12)] []) : ∀ (x0 : Nat) (x1 : Int32) (x2 : Int32) (x4 : Nat) (x5 : Int64) (x7 : Int64) (x9 : Int32) (x10 : Int64) (x12 : Int32) (h : HS), wb_X0_lossPart_192 cl lm Q E J109 J127 x0 x1 x2 x4 x5 x7 x9 x10 x12 h → GH X G h (hQ X G h0 Q E) 192 [(0, .ref x0), (1, .int x1), (2, .int x2), (4, .ref x4), (5, .long x5), (7, .long x7), (9, .int x9), (10, .long x10), (12, .int x12)] [] := by
  have hlm := hCl.2.1
  have hd8 := hCl.2.2.1
  have hd2 : 1 ≤ d2 := Nat.le_trans (by decide) hd8
  have hLa := hCl.2.2.2
  have hd1 : 1 ≤ d2 + 1 := Nat.le_add_left _ _
  have hC9 := hCl
  replace hCl := hCl.1
  intro x0 x1 x2 x4 x5 x7 x9 x10 x12 h hw
  unfold wb_X0_lossPart_192 at hw
  obtain ⟨x_1, ex_1⟩ : ∃ z : Int32, z = x12 + 1 := ⟨_, rfl⟩
  replace hw := hw x_1 ex_1
  refine gk_iinc (pc := 192) (v := x_1) (lv' := [(12, Value.int x_1), (0, Value.ref x0), (1, Value.int x1), (2, Value.int x2), (4, Value.ref x4), (5, Value.long x5), (7, Value.long x7), (9, Value.int x9), (10, Value.long x10)]) C.1 8 dX0_lossPart_192 rfl (by rw [ex_1]; rfl) (by rw [hXn]; decide) (by first | rfl | simp [va_rf_S, va_rf_cat, cat_i, cat_a, cat_l, cat_f, fin4_0, fin4_1, fin4_2, fin4_3]) ?_
  refine gk_goto (pc := 195) (tgt := 127) C.1 dX0_lossPart_195 (by decide) ?_
  refine GK.sub (lv' := [(0, .ref x0), (1, .int x1), (2, .int x2), (4, .ref x4), (5, .long x5), (7, .long x7), (9, .int x9), (10, .long x10), (12, .int x_1)]) [1, 2, 3, 4, 5, 6, 7, 8, 0] rfl ?_
  exact hJ127 _ _ _ _ _ _ _ _ _ _ hw
def wb_X0_lossPart_157 (cl : CT) (lm : Nat × Nat) (Q : QT) (E : ET) (J109 : Nat → Int32 → Int32 → Nat → Int64 → Int64 → Int32 → HS → Prop) (J127 : Nat → Int32 → Int32 → Nat → Int64 → Int64 → Int32 → Int64 → Int32 → HS → Prop) (x0 : Nat) (x1 : Int32) (x2 : Int32) (x4 : Nat) (x5 : Int64) (x7 : Int64) (x9 : Int32) (x12 : Int32) (s0 : Int64) (s1 : Int64) (h : HS) : Prop := ∀ x_1 : Int64, x_1 = s0 * s1 → (cl 74 [.int x9, .int x12] h (gI (fun r_3 h_2 => ((r_3 = 0 → (wb_X0_lossPart_192 cl lm Q E J109 J127 x0 x1 x2 x4 x5 x7 x9 x_1 x12 h_2)) ∧ (¬ r_3 = 0 → (dp_Row_at cl x4 [.int x12] h_2 (gR (fun r_8 h_7 => ck_GathersAllFaults_Part h_7 r_8 ∧ (∃ a_11 : Nat, r_8 = some a_11 ∧ ((hT h_7 a_11 = 6) ∧ ((hT h_7 x0 = 1) ∧ (∀ r_12 : Option Nat, r_12 = hR h_7 11 x0 → (dp_GathersAllFaults_swap cl x0 [.int (hI h_7 21 a_11), va_rf r_12] h_7 (gR (fun r_14 h_13 => wb_X0_lossPart_192 cl lm Q E J109 J127 x0 x1 x2 x4 x5 x7 x9 x_1 x12 h_13)) E))))))) E))))) E)
theorem wk_X0_lossPart_157 {X : Ev} {G : GG} {cl : CT} {lm : Nat × Nat} {Q : QT} {E : ET} {h0 : HS} {d2 : Nat} {J109 : Nat → Int32 → Int32 → Nat → Int64 → Int64 → Int32 → HS → Prop} {J127 : Nat → Int32 → Int32 → Nat → Int64 → Int64 → Int32 → Int64 → Int32 → HS → Prop} (C : HC X G RX0 cX0_lossPart (d2 + 1)) (hCl : CallsOK (ev_l X) G d2 cl ∧ hLm G lm ∧ 8 ≤ d2 ∧ LamsOK (ev_l X) G d2 cl) (S0 : HS0 X h0) (hret : (ev_h X).sig.returnType = (Option.some Jvm.ClassFile.FieldType.long)) (hXn : ev_n X = 13) (hini : True) (hTb : (ev_c X).exceptionTable.toList = []) (hJ109 : ∀ (x0 : Nat) (x1 : Int32) (x2 : Int32) (x4 : Nat) (x5 : Int64) (x7 : Int64) (x9 : Int32) (h : HS), J109 x0 x1 x2 x4 x5 x7 x9 h → GH X G h (hQ X G h0 Q E) 109 [(0, .ref x0), (1, .int x1), (2, .int x2), (4, .ref x4), (5, .long x5), (7, .long x7), (9, .int x9)] []) (hJ127 : ∀ (x0 : Nat) (x1 : Int32) (x2 : Int32) (x4 : Nat) (x5 : Int64) (x7 : Int64) (x9 : Int32) (x10 : Int64) (x12 : Int32) (h : HS), J127 x0 x1 x2 x4 x5 x7 x9 x10 x12 h → GH X G h (hQ X G h0 Q E) 127 [(0, .ref x0), (1, .int x1), (2, .int x2), (4, .ref x4), (5, .long x5), (7, .long x7), (9, .int x9), (10, .long x10), (12, .int x12)] []) : ∀ (x0 : Nat) (x1 : Int32) (x2 : Int32) (x4 : Nat) (x5 : Int64) (x7 : Int64) (x9 : Int32) (x12 : Int32) (s0 : Int64) (s1 : Int64) (h : HS), wb_X0_lossPart_157 cl lm Q E J109 J127 x0 x1 x2 x4 x5 x7 x9 x12 s0 s1 h → GH X G h (hQ X G h0 Q E) 157 [(0, .ref x0), (1, .int x1), (2, .int x2), (4, .ref x4), (5, .long x5), (7, .long x7), (9, .int x9), (12, .int x12)] [.long s1, .long s0] := by
  have hlm := hCl.2.1
  have hd8 := hCl.2.2.1
  have hd2 : 1 ≤ d2 := Nat.le_trans (by decide) hd8
  have hLa := hCl.2.2.2
  have hd1 : 1 ≤ d2 + 1 := Nat.le_add_left _ _
  have hC9 := hCl
  replace hCl := hCl.1
  intro x0 x1 x2 x4 x5 x7 x9 x12 s0 s1 h hw
  unfold wb_X0_lossPart_157 at hw
  refine gk_lmul (pc := 157) C.1 dX0_lossPart_157 ?_
  obtain ⟨x_1, ex_1⟩ : ∃ z : Int64, z = s0 * s1 := ⟨_, rfl⟩
  rw [← ex_1]
  replace hw := hw x_1 ex_1
  refine gk_lstore (pc := 158) (lv' := [(10, Value.long x_1), (0, Value.ref x0), (1, Value.int x1), (2, Value.int x2), (4, Value.ref x4), (5, Value.long x5), (7, Value.long x7), (9, Value.int x9), (12, Value.int x12)]) C.1 dX0_lossPart_158 (by rw [hXn]; decide) (by first | rfl | simp [va_rf_S, va_rf_cat, cat_i, cat_a, cat_l, cat_f, fin4_0, fin4_1, fin4_2, fin4_3]) ?_
  refine gk_iload (pc := 160) C.1 7 dX0_lossPart_160 rfl ?_
  refine gk_iload (pc := 162) C.1 8 dX0_lossPart_162 rfl ?_
  refine gc_X0_289 (pc := 164) (As := [.int x9, .int x12]) (rest := []) C hCl (Nat.le_refl _) hw rfl rfl (Nat.le_of_ble_eq_true rfl) dX0_lossPart_164 (fun v9 h_2 hp => ?_) (fun q_4 h_5 hw ht9 => ?_)
  rotate_left
  · exact gx_out C S0 (by rw [hTb]; decide) ht9 hw
  clear hw
  obtain ⟨r_3, rfl, hw⟩ := hp
  refine GK.at (p2 := 167) rfl ?_
  refine gk_if_eq (pc := 167) (tgt := 192) C.1 dX0_lossPart_167 (by decide) (fun c_6 => ?_) (fun c_6 => ?_)
  · replace hw := hw.1 c_6
    refine GK.sub (lv' := [(0, .ref x0), (1, .int x1), (2, .int x2), (4, .ref x4), (5, .long x5), (7, .long x7), (9, .int x9), (10, .long x_1), (12, .int x12)]) [1, 2, 3, 4, 5, 6, 7, 0, 8] rfl ?_
    exact wk_X0_lossPart_192 C hC9 S0 hret hXn hini hTb hJ109 hJ127 _ _ _ _ _ _ _ _ _ _ hw
  · replace hw := hw.2 c_6
    refine gk_aload_n (pc := 170) C.1 1 dX0_lossPart_170 rfl rfl ?_
    refine gk_aload (pc := 171) C.1 4 dX0_lossPart_171 rfl ?_
    refine gk_iload (pc := 173) C.1 8 dX0_lossPart_173 rfl ?_
    refine gc_X0_152 (pc := 175) (As := [.int x12]) (rest := [.ref x0]) C hCl (Nat.le_refl _) hw rfl rfl (Nat.le_of_ble_eq_true rfl) dX0_lossPart_175 (fun v9 h_7 hp => ?_) (fun q_9 h_10 hw ht9 => ?_)
    rotate_left
    · exact gx_out C S0 (by rw [hTb]; decide) ht9 hw
    clear hw
    obtain ⟨r_8, rfl, hw⟩ := hp
    refine GK.at (p2 := 178) rfl ?_
    obtain ⟨hs, hw⟩ := hw
    refine gh_ckc (pc := 178) (r := r_8) C q1641 (ck_GathersAllFaults_Part_ok hs) dX0_lossPart_178 ?_
    obtain ⟨a_11, rfl, hw⟩ := hw
    obtain ⟨ht, hw⟩ := hw
    refine gf_X0_157 (pc := 181) C ht dX0_lossPart_181 ?_
    refine gk_aload_n (pc := 184) C.1 1 dX0_lossPart_184 rfl rfl ?_
    obtain ⟨ht, hw⟩ := hw
    refine gf_X0_96 (pc := 185) C ht dX0_lossPart_185 (fun r_12 er_12 => ?_)
    replace hw := hw r_12 er_12
    refine gc_X0_218 (pc := 188) (As := [.int (hI h_7 21 a_11), va_rf r_12]) (rest := []) C hCl (Nat.le_refl _) hw rfl rfl (Nat.le_of_ble_eq_true rfl) dX0_lossPart_188 (fun v9 h_13 hp => ?_) (fun q_15 h_16 hw ht9 => ?_)
    rotate_left
    · exact gx_out C S0 (by rw [hTb]; decide) ht9 hw
    clear hw
    obtain ⟨r_14, rfl, hw⟩ := hp
    refine GK.at (p2 := 191) rfl ?_
    refine gk_pop (pc := 191) C.1 dX0_lossPart_191 (va_rf_cat _) ?_
    refine GK.sub (lv' := [(0, .ref x0), (1, .int x1), (2, .int x2), (4, .ref x4), (5, .long x5), (7, .long x7), (9, .int x9), (10, .long x_1), (12, .int x12)]) [1, 2, 3, 4, 5, 6, 7, 0, 8] rfl ?_
    exact wk_X0_lossPart_192 C hC9 S0 hret hXn hini hTb hJ109 hJ127 _ _ _ _ _ _ _ _ _ _ hw
def wb_X0_lossPart_280 (cl : CT) (lm : Nat × Nat) (Q : QT) (E : ET) (J109 : Nat → Int32 → Int32 → Nat → Int64 → Int64 → Int32 → HS → Prop) (J229 : Nat → Int32 → Int32 → Nat → Int64 → Int64 → Int32 → Int32 → HS → Prop) (x0 : Nat) (x1 : Int32) (x2 : Int32) (x4 : Nat) (x5 : Int64) (x7 : Int64) (x9 : Int32) (x12 : Int32) (h : HS) : Prop := ∀ x_1 : Int32, x_1 = x12 + 1 → (J229 x0 x1 x2 x4 x5 x7 x9 x_1 h)
theorem wk_X0_lossPart_280 {X : Ev} {G : GG} {cl : CT} {lm : Nat × Nat} {Q : QT} {E : ET} {h0 : HS} {d2 : Nat} {J109 : Nat → Int32 → Int32 → Nat → Int64 → Int64 → Int32 → HS → Prop} {J229 : Nat → Int32 → Int32 → Nat → Int64 → Int64 → Int32 → Int32 → HS → Prop} (C : HC X G RX0 cX0_lossPart (d2 + 1)) (hCl : CallsOK (ev_l X) G d2 cl ∧ hLm G lm ∧ 8 ≤ d2 ∧ LamsOK (ev_l X) G d2 cl) (S0 : HS0 X h0) (hret : (ev_h X).sig.returnType = (Option.some Jvm.ClassFile.FieldType.long)) (hXn : ev_n X = 13) (hini : True) (hTb : (ev_c X).exceptionTable.toList = []) (hJ109 : ∀ (x0 : Nat) (x1 : Int32) (x2 : Int32) (x4 : Nat) (x5 : Int64) (x7 : Int64) (x9 : Int32) (h : HS), J109 x0 x1 x2 x4 x5 x7 x9 h → GH X G h (hQ X G h0 Q E) 109 [(0, .ref x0), (1, .int x1), (2, .int x2), (4, .ref x4), (5, .long x5), (7, .long x7), (9, .int x9)] []) (hJ229 : ∀ (x0 : Nat) (x1 : Int32) (x2 : Int32) (x4 : Nat) (x5 : Int64) (x7 : Int64) (x9 : Int32) (x12 : Int32) (h : HS), J229 x0 x1 x2 x4 x5 x7 x9 x12 h → GH X G h (hQ X G h0 Q E) 229 [(0, .ref x0), (1, .int x1), (2, .int x2), (4, .ref x4), (5, .long x5), (7, .long x7), (9, .int x9), (12, .int x12)] []) : ∀ (x0 : Nat) (x1 : Int32) (x2 : Int32) (x4 : Nat) (x5 : Int64) (x7 : Int64) (x9 : Int32) (x12 : Int32) (h : HS), wb_X0_lossPart_280 cl lm Q E J109 J229 x0 x1 x2 x4 x5 x7 x9 x12 h → GH X G h (hQ X G h0 Q E) 280 [(0, .ref x0), (1, .int x1), (2, .int x2), (4, .ref x4), (5, .long x5), (7, .long x7), (9, .int x9), (12, .int x12)] [] := by
  have hlm := hCl.2.1
  have hd8 := hCl.2.2.1
  have hd2 : 1 ≤ d2 := Nat.le_trans (by decide) hd8
  have hLa := hCl.2.2.2
  have hd1 : 1 ≤ d2 + 1 := Nat.le_add_left _ _
  have hC9 := hCl
  replace hCl := hCl.1
  intro x0 x1 x2 x4 x5 x7 x9 x12 h hw
  unfold wb_X0_lossPart_280 at hw
  obtain ⟨x_1, ex_1⟩ : ∃ z : Int32, z = x12 + 1 := ⟨_, rfl⟩
  replace hw := hw x_1 ex_1
  refine gk_iinc (pc := 280) (v := x_1) (lv' := [(12, Value.int x_1), (0, Value.ref x0), (1, Value.int x1), (2, Value.int x2), (4, Value.ref x4), (5, Value.long x5), (7, Value.long x7), (9, Value.int x9)]) C.1 7 dX0_lossPart_280 rfl (by rw [ex_1]; rfl) (by rw [hXn]; decide) (by first | rfl | simp [va_rf_S, va_rf_cat, cat_i, cat_a, cat_l, cat_f, fin4_0, fin4_1, fin4_2, fin4_3]) ?_
  refine gk_goto (pc := 283) (tgt := 229) C.1 dX0_lossPart_283 (by decide) ?_
  refine GK.sub (lv' := [(0, .ref x0), (1, .int x1), (2, .int x2), (4, .ref x4), (5, .long x5), (7, .long x7), (9, .int x9), (12, .int x_1)]) [1, 2, 3, 4, 5, 6, 7, 0] rfl ?_
  exact hJ229 _ _ _ _ _ _ _ _ _ hw
def wb_X0_lossPart_229 (cl : CT) (lm : Nat × Nat) (Q : QT) (E : ET) (J109 : Nat → Int32 → Int32 → Nat → Int64 → Int64 → Int32 → HS → Prop) : Nat → Nat → Int32 → Int32 → Nat → Int64 → Int64 → Int32 → Int32 → HS → Prop
  | 0 => fun _ _ _ _ _ _ _ _ _ => False
  | n + 1 => fun x0 x1 x2 x4 x5 x7 x9 x12 h => (hT h x4 = 7) ∧ ((((hI h 24 x4) ≤ x12 → (∀ x_2 : Int32, x_2 = x9 + 1 → (J109 x0 x1 x2 x4 x5 x7 x_2 h))) ∧ (¬ (hI h 24 x4) ≤ x12 → (cl 74 [.int x9, .int x12] h (gI (fun r_4 h_3 => ((r_4 = 0 → (wb_X0_lossPart_280 cl lm Q E J109 (fun yx0 yx1 yx2 yx4 yx5 yx7 yx9 yx12 yh => wb_X0_lossPart_229 cl lm Q E J109 n yx0 yx1 yx2 yx4 yx5 yx7 yx9 yx12 yh) x0 x1 x2 x4 x5 x7 x9 x12 h_3)) ∧ (¬ r_4 = 0 → (dp_Row_at cl x4 [.int x12] h_3 (gR (fun r_9 h_8 => ck_GathersAllFaults_Part h_8 r_9 ∧ (∃ a_12 : Nat, r_9 = some a_12 ∧ ((hT h_8 a_12 = 6) ∧ (dp_Row_at cl x4 [.int x12] h_8 (gR (fun r_14 h_13 => ck_GathersAllFaults_Part h_13 r_14 ∧ (∃ a_17 : Nat, r_14 = some a_17 ∧ ((hT h_13 a_17 = 6) ∧ (∀ r_18 : Option Nat, r_18 = hR h_13 22 a_17 → (dp_GathersAllFaults_swap cl x0 [.int (hI h_8 21 a_12), va_rf r_18] h_13 (gR (fun r_20 h_19 => wb_X0_lossPart_280 cl lm Q E J109 (fun yx0 yx1 yx2 yx4 yx5 yx7 yx9 yx12 yh => wb_X0_lossPart_229 cl lm Q E J109 n yx0 yx1 yx2 yx4 yx5 yx7 yx9 yx12 yh) x0 x1 x2 x4 x5 x7 x9 x12 h_19)) E)))))) E))))) E))))) E))))
theorem wk_X0_lossPart_229 {X : Ev} {G : GG} {cl : CT} {lm : Nat × Nat} {Q : QT} {E : ET} {h0 : HS} {d2 : Nat} {J109 : Nat → Int32 → Int32 → Nat → Int64 → Int64 → Int32 → HS → Prop} (C : HC X G RX0 cX0_lossPart (d2 + 1)) (hCl : CallsOK (ev_l X) G d2 cl ∧ hLm G lm ∧ 8 ≤ d2 ∧ LamsOK (ev_l X) G d2 cl) (S0 : HS0 X h0) (hret : (ev_h X).sig.returnType = (Option.some Jvm.ClassFile.FieldType.long)) (hXn : ev_n X = 13) (hini : True) (hTb : (ev_c X).exceptionTable.toList = []) (hJ109 : ∀ (x0 : Nat) (x1 : Int32) (x2 : Int32) (x4 : Nat) (x5 : Int64) (x7 : Int64) (x9 : Int32) (h : HS), J109 x0 x1 x2 x4 x5 x7 x9 h → GH X G h (hQ X G h0 Q E) 109 [(0, .ref x0), (1, .int x1), (2, .int x2), (4, .ref x4), (5, .long x5), (7, .long x7), (9, .int x9)] []) : ∀ (n : Nat) (x0 : Nat) (x1 : Int32) (x2 : Int32) (x4 : Nat) (x5 : Int64) (x7 : Int64) (x9 : Int32) (x12 : Int32) (h : HS), wb_X0_lossPart_229 cl lm Q E J109 n x0 x1 x2 x4 x5 x7 x9 x12 h → GH X G h (hQ X G h0 Q E) 229 [(0, .ref x0), (1, .int x1), (2, .int x2), (4, .ref x4), (5, .long x5), (7, .long x7), (9, .int x9), (12, .int x12)] [] := by
  have hlm := hCl.2.1
  have hd8 := hCl.2.2.1
  have hd2 : 1 ≤ d2 := Nat.le_trans (by decide) hd8
  have hLa := hCl.2.2.2
  have hd1 : 1 ≤ d2 + 1 := Nat.le_add_left _ _
  have hC9 := hCl
  replace hCl := hCl.1
  intro n
  induction n with
  | zero => intro x0 x1 x2 x4 x5 x7 x9 x12 h hw; exact hw.elim
  | succ n ih =>
  intro x0 x1 x2 x4 x5 x7 x9 x12 h hw
  unfold wb_X0_lossPart_229 at hw
  refine gk_iload (pc := 229) C.1 7 dX0_lossPart_229 rfl ?_
  refine gk_aload (pc := 231) C.1 3 dX0_lossPart_231 rfl ?_
  obtain ⟨ht, hw⟩ := hw
  refine gf_X0_149 (pc := 233) C ht dX0_lossPart_233 ?_
  refine gk_icmp_ge (pc := 236) (tgt := 286) C.1 dX0_lossPart_236 (by decide) (fun c_1 => ?_) (fun c_1 => ?_)
  · replace hw := hw.1 c_1
    obtain ⟨x_2, ex_2⟩ : ∃ z : Int32, z = x9 + 1 := ⟨_, rfl⟩
    replace hw := hw x_2 ex_2
    refine gk_iinc (pc := 286) (v := x_2) (lv' := [(9, Value.int x_2), (0, Value.ref x0), (1, Value.int x1), (2, Value.int x2), (4, Value.ref x4), (5, Value.long x5), (7, Value.long x7), (12, Value.int x12)]) C.1 6 dX0_lossPart_286 rfl (by rw [ex_2]; rfl) (by rw [hXn]; decide) (by first | rfl | simp [va_rf_S, va_rf_cat, cat_i, cat_a, cat_l, cat_f, fin4_0, fin4_1, fin4_2, fin4_3]) ?_
    refine gk_goto (pc := 289) (tgt := 109) C.1 dX0_lossPart_289 (by decide) ?_
    refine GK.sub (lv' := [(0, .ref x0), (1, .int x1), (2, .int x2), (4, .ref x4), (5, .long x5), (7, .long x7), (9, .int x_2)]) [1, 2, 3, 4, 5, 6, 0] rfl ?_
    exact hJ109 _ _ _ _ _ _ _ _ hw
  · replace hw := hw.2 c_1
    refine gk_iload (pc := 239) C.1 6 dX0_lossPart_239 rfl ?_
    refine gk_iload (pc := 241) C.1 7 dX0_lossPart_241 rfl ?_
    refine gc_X0_289 (pc := 243) (As := [.int x9, .int x12]) (rest := []) C hCl (Nat.le_refl _) hw rfl rfl (Nat.le_of_ble_eq_true rfl) dX0_lossPart_243 (fun v9 h_3 hp => ?_) (fun q_5 h_6 hw ht9 => ?_)
    rotate_left
    · exact gx_out C S0 (by rw [hTb]; decide) ht9 hw
    clear hw
    obtain ⟨r_4, rfl, hw⟩ := hp
    refine GK.at (p2 := 246) rfl ?_
    refine gk_if_eq (pc := 246) (tgt := 280) C.1 dX0_lossPart_246 (by decide) (fun c_7 => ?_) (fun c_7 => ?_)
    · replace hw := hw.1 c_7
      refine GK.sub (lv' := [(0, .ref x0), (1, .int x1), (2, .int x2), (4, .ref x4), (5, .long x5), (7, .long x7), (9, .int x9), (12, .int x12)]) [0, 1, 2, 3, 4, 5, 6, 7] rfl ?_
      exact wk_X0_lossPart_280 C hC9 S0 hret hXn hini hTb hJ109 ih _ _ _ _ _ _ _ _ _ hw
    · replace hw := hw.2 c_7
      refine gk_aload_n (pc := 249) C.1 0 dX0_lossPart_249 rfl rfl ?_
      refine gk_aload (pc := 250) C.1 3 dX0_lossPart_250 rfl ?_
      refine gk_iload (pc := 252) C.1 7 dX0_lossPart_252 rfl ?_
      refine gc_X0_152 (pc := 254) (As := [.int x12]) (rest := [.ref x0]) C hCl (Nat.le_refl _) hw rfl rfl (Nat.le_of_ble_eq_true rfl) dX0_lossPart_254 (fun v9 h_8 hp => ?_) (fun q_10 h_11 hw ht9 => ?_)
      rotate_left
      · exact gx_out C S0 (by rw [hTb]; decide) ht9 hw
      clear hw
      obtain ⟨r_9, rfl, hw⟩ := hp
      refine GK.at (p2 := 257) rfl ?_
      obtain ⟨hs, hw⟩ := hw
      refine gh_ckc (pc := 257) (r := r_9) C q1641 (ck_GathersAllFaults_Part_ok hs) dX0_lossPart_257 ?_
      obtain ⟨a_12, rfl, hw⟩ := hw
      obtain ⟨ht, hw⟩ := hw
      refine gf_X0_157 (pc := 260) C ht dX0_lossPart_260 ?_
      refine gk_aload (pc := 263) C.1 3 dX0_lossPart_263 rfl ?_
      refine gk_iload (pc := 265) C.1 7 dX0_lossPart_265 rfl ?_
      refine gc_X0_152 (pc := 267) (As := [.int x12]) (rest := [.int (hI h_8 21 a_12), .ref x0]) C hCl (Nat.le_refl _) hw rfl rfl (Nat.le_of_ble_eq_true rfl) dX0_lossPart_267 (fun v9 h_13 hp => ?_) (fun q_15 h_16 hw ht9 => ?_)
      rotate_left
      · exact gx_out C S0 (by rw [hTb]; decide) ht9 hw
      clear hw
      obtain ⟨r_14, rfl, hw⟩ := hp
      refine GK.at (p2 := 270) rfl ?_
      obtain ⟨hs, hw⟩ := hw
      refine gh_ckc (pc := 270) (r := r_14) C q1641 (ck_GathersAllFaults_Part_ok hs) dX0_lossPart_270 ?_
      obtain ⟨a_17, rfl, hw⟩ := hw
      obtain ⟨ht, hw⟩ := hw
      refine gf_X0_160 (pc := 273) C ht dX0_lossPart_273 (fun r_18 er_18 => ?_)
      replace hw := hw r_18 er_18
      refine gc_X0_218 (pc := 276) (As := [.int (hI h_8 21 a_12), va_rf r_18]) (rest := []) C hCl (Nat.le_refl _) hw rfl rfl (Nat.le_of_ble_eq_true rfl) dX0_lossPart_276 (fun v9 h_19 hp => ?_) (fun q_21 h_22 hw ht9 => ?_)
      rotate_left
      · exact gx_out C S0 (by rw [hTb]; decide) ht9 hw
      clear hw
      obtain ⟨r_20, rfl, hw⟩ := hp
      refine GK.at (p2 := 279) rfl ?_
      refine gk_pop (pc := 279) C.1 dX0_lossPart_279 (va_rf_cat _) ?_
      refine GK.sub (lv' := [(0, .ref x0), (1, .int x1), (2, .int x2), (4, .ref x4), (5, .long x5), (7, .long x7), (9, .int x9), (12, .int x12)]) [0, 1, 2, 3, 4, 5, 6, 7] rfl ?_
      exact wk_X0_lossPart_280 C hC9 S0 hret hXn hini hTb hJ109 ih _ _ _ _ _ _ _ _ _ hw
def wb_X0_lossPart_223 (cl : CT) (lm : Nat × Nat) (Q : QT) (E : ET) (J109 : Nat → Int32 → Int32 → Nat → Int64 → Int64 → Int32 → HS → Prop) (x0 : Nat) (x1 : Int32) (x2 : Int32) (x4 : Nat) (x7 : Int64) (x9 : Int32) (s0 : Int64) (s1 : Int64) (h : HS) : Prop := ∀ x_1 : Int64, x_1 = s0 + s1 → (∃ fu : Nat, wb_X0_lossPart_229 cl lm Q E J109 fu x0 x1 x2 x4 x_1 x7 x9 0 h)
theorem wk_X0_lossPart_223 {X : Ev} {G : GG} {cl : CT} {lm : Nat × Nat} {Q : QT} {E : ET} {h0 : HS} {d2 : Nat} {J109 : Nat → Int32 → Int32 → Nat → Int64 → Int64 → Int32 → HS → Prop} (C : HC X G RX0 cX0_lossPart (d2 + 1)) (hCl : CallsOK (ev_l X) G d2 cl ∧ hLm G lm ∧ 8 ≤ d2 ∧ LamsOK (ev_l X) G d2 cl) (S0 : HS0 X h0) (hret : (ev_h X).sig.returnType = (Option.some Jvm.ClassFile.FieldType.long)) (hXn : ev_n X = 13) (hini : True) (hTb : (ev_c X).exceptionTable.toList = []) (hJ109 : ∀ (x0 : Nat) (x1 : Int32) (x2 : Int32) (x4 : Nat) (x5 : Int64) (x7 : Int64) (x9 : Int32) (h : HS), J109 x0 x1 x2 x4 x5 x7 x9 h → GH X G h (hQ X G h0 Q E) 109 [(0, .ref x0), (1, .int x1), (2, .int x2), (4, .ref x4), (5, .long x5), (7, .long x7), (9, .int x9)] []) : ∀ (x0 : Nat) (x1 : Int32) (x2 : Int32) (x4 : Nat) (x7 : Int64) (x9 : Int32) (s0 : Int64) (s1 : Int64) (h : HS), wb_X0_lossPart_223 cl lm Q E J109 x0 x1 x2 x4 x7 x9 s0 s1 h → GH X G h (hQ X G h0 Q E) 223 [(0, .ref x0), (1, .int x1), (2, .int x2), (4, .ref x4), (7, .long x7), (9, .int x9)] [.long s1, .long s0] := by
  have hlm := hCl.2.1
  have hd8 := hCl.2.2.1
  have hd2 : 1 ≤ d2 := Nat.le_trans (by decide) hd8
  have hLa := hCl.2.2.2
  have hd1 : 1 ≤ d2 + 1 := Nat.le_add_left _ _
  have hC9 := hCl
  replace hCl := hCl.1
  intro x0 x1 x2 x4 x7 x9 s0 s1 h hw
  unfold wb_X0_lossPart_223 at hw
  refine gk_ladd (pc := 223) C.1 dX0_lossPart_223 ?_
  obtain ⟨x_1, ex_1⟩ : ∃ z : Int64, z = s0 + s1 := ⟨_, rfl⟩
  rw [← ex_1]
  replace hw := hw x_1 ex_1
  refine gk_lstore (pc := 224) (lv' := [(5, Value.long x_1), (0, Value.ref x0), (1, Value.int x1), (2, Value.int x2), (4, Value.ref x4), (7, Value.long x7), (9, Value.int x9)]) C.1 dX0_lossPart_224 (by rw [hXn]; decide) (by first | rfl | simp [va_rf_S, va_rf_cat, cat_i, cat_a, cat_l, cat_f, fin4_0, fin4_1, fin4_2, fin4_3]) ?_
  refine gk_iconst (pc := 226) (v := 0) C.1 dX0_lossPart_226 (by decide) ?_
  refine gk_istore (pc := 227) (lv' := [(12, Value.int 0), (5, Value.long x_1), (0, Value.ref x0), (1, Value.int x1), (2, Value.int x2), (4, Value.ref x4), (7, Value.long x7), (9, Value.int x9)]) C.1 dX0_lossPart_227 (by rw [hXn]; decide) (by first | rfl | simp [va_rf_S, va_rf_cat, cat_i, cat_a, cat_l, cat_f, fin4_0, fin4_1, fin4_2, fin4_3]) ?_
  refine GK.sub (lv' := [(0, .ref x0), (1, .int x1), (2, .int x2), (4, .ref x4), (5, .long x_1), (7, .long x7), (9, .int x9), (12, .int 0)]) [2, 3, 4, 5, 1, 6, 7, 0] rfl ?_
  obtain ⟨n9, hw⟩ := hw
  exact wk_X0_lossPart_229 C hC9 S0 hret hXn hini hTb hJ109 n9 _ _ _ _ _ _ _ _ _ hw
def wb_X0_lossPart_127 (cl : CT) (lm : Nat × Nat) (Q : QT) (E : ET) (J109 : Nat → Int32 → Int32 → Nat → Int64 → Int64 → Int32 → HS → Prop) : Nat → Nat → Int32 → Int32 → Nat → Int64 → Int64 → Int32 → Int64 → Int32 → HS → Prop
  | 0 => fun _ _ _ _ _ _ _ _ _ _ => False
  | n + 1 => fun x0 x1 x2 x4 x5 x7 x9 x10 x12 h => (hT h x4 = 7) ∧ ((((hI h 24 x4) ≤ x12 → ((hT h x0 = 1) ∧ (∀ r_2 : Option Nat, r_2 = hR h 1 x0 → ((hT h x0 = 1) ∧ (∀ r_3 : Option Nat, r_3 = hR h 0 x0 → (∃ a_4 : Nat, r_2 = some a_4 ∧ (dp_Compiled_of cl a_4 [va_rf r_3] h (gR (fun r_6 h_5 => ∃ a_9 : Nat, r_6 = some a_9 ∧ (dp_Finding_isNone cl a_9 [] h_5 (gI (fun r_11 h_10 => ((r_11 = 0 → (wb_X0_lossPart_223 cl lm Q E J109 x0 x1 x2 x4 x7 x9 x5 0 h_10)) ∧ (¬ r_11 = 0 → (wb_X0_lossPart_223 cl lm Q E J109 x0 x1 x2 x4 x7 x9 x5 x10 h_10))))) E))) E))))))) ∧ (¬ (hI h 24 x4) ≤ x12 → (cl 74 [.int x9, .int x12] h (gI (fun r_16 h_15 => ((r_16 = 0 → (wb_X0_lossPart_157 cl lm Q E J109 (fun yx0 yx1 yx2 yx4 yx5 yx7 yx9 yx10 yx12 yh => wb_X0_lossPart_127 cl lm Q E J109 n yx0 yx1 yx2 yx4 yx5 yx7 yx9 yx10 yx12 yh) x0 x1 x2 x4 x5 x7 x9 x12 x10 ((x1 - 1 : Int32).toInt64) h_15)) ∧ (¬ r_16 = 0 → (wb_X0_lossPart_157 cl lm Q E J109 (fun yx0 yx1 yx2 yx4 yx5 yx7 yx9 yx10 yx12 yh => wb_X0_lossPart_127 cl lm Q E J109 n yx0 yx1 yx2 yx4 yx5 yx7 yx9 yx10 yx12 yh) x0 x1 x2 x4 x5 x7 x9 x12 x10 1 h_15))))) E))))
theorem wk_X0_lossPart_127 {X : Ev} {G : GG} {cl : CT} {lm : Nat × Nat} {Q : QT} {E : ET} {h0 : HS} {d2 : Nat} {J109 : Nat → Int32 → Int32 → Nat → Int64 → Int64 → Int32 → HS → Prop} (C : HC X G RX0 cX0_lossPart (d2 + 1)) (hCl : CallsOK (ev_l X) G d2 cl ∧ hLm G lm ∧ 8 ≤ d2 ∧ LamsOK (ev_l X) G d2 cl) (S0 : HS0 X h0) (hret : (ev_h X).sig.returnType = (Option.some Jvm.ClassFile.FieldType.long)) (hXn : ev_n X = 13) (hini : True) (hTb : (ev_c X).exceptionTable.toList = []) (hJ109 : ∀ (x0 : Nat) (x1 : Int32) (x2 : Int32) (x4 : Nat) (x5 : Int64) (x7 : Int64) (x9 : Int32) (h : HS), J109 x0 x1 x2 x4 x5 x7 x9 h → GH X G h (hQ X G h0 Q E) 109 [(0, .ref x0), (1, .int x1), (2, .int x2), (4, .ref x4), (5, .long x5), (7, .long x7), (9, .int x9)] []) : ∀ (n : Nat) (x0 : Nat) (x1 : Int32) (x2 : Int32) (x4 : Nat) (x5 : Int64) (x7 : Int64) (x9 : Int32) (x10 : Int64) (x12 : Int32) (h : HS), wb_X0_lossPart_127 cl lm Q E J109 n x0 x1 x2 x4 x5 x7 x9 x10 x12 h → GH X G h (hQ X G h0 Q E) 127 [(0, .ref x0), (1, .int x1), (2, .int x2), (4, .ref x4), (5, .long x5), (7, .long x7), (9, .int x9), (10, .long x10), (12, .int x12)] [] := by
  have hlm := hCl.2.1
  have hd8 := hCl.2.2.1
  have hd2 : 1 ≤ d2 := Nat.le_trans (by decide) hd8
  have hLa := hCl.2.2.2
  have hd1 : 1 ≤ d2 + 1 := Nat.le_add_left _ _
  have hC9 := hCl
  replace hCl := hCl.1
  intro n
  induction n with
  | zero => intro x0 x1 x2 x4 x5 x7 x9 x10 x12 h hw; exact hw.elim
  | succ n ih =>
  intro x0 x1 x2 x4 x5 x7 x9 x10 x12 h hw
  unfold wb_X0_lossPart_127 at hw
  refine gk_iload (pc := 127) C.1 8 dX0_lossPart_127 rfl ?_
  refine gk_aload (pc := 129) C.1 3 dX0_lossPart_129 rfl ?_
  obtain ⟨ht, hw⟩ := hw
  refine gf_X0_149 (pc := 131) C ht dX0_lossPart_131 ?_
  refine gk_icmp_ge (pc := 134) (tgt := 198) C.1 dX0_lossPart_134 (by decide) (fun c_1 => ?_) (fun c_1 => ?_)
  · replace hw := hw.1 c_1
    refine gk_lload (pc := 198) C.1 4 dX0_lossPart_198 rfl ?_
    refine gk_aload_n (pc := 200) C.1 0 dX0_lossPart_200 rfl rfl ?_
    obtain ⟨ht, hw⟩ := hw
    refine gf_X0_73 (pc := 201) C ht dX0_lossPart_201 (fun r_2 er_2 => ?_)
    replace hw := hw r_2 er_2
    refine gk_aload_n (pc := 204) C.1 0 dX0_lossPart_204 rfl rfl ?_
    obtain ⟨ht, hw⟩ := hw
    refine gf_X0_66 (pc := 205) C ht dX0_lossPart_205 (fun r_3 er_3 => ?_)
    replace hw := hw r_3 er_3
    obtain ⟨a_4, rfl, hw⟩ := hw
    refine gc_X0_192 (pc := 208) (As := [va_rf r_3]) (rest := [.long x5]) C hCl (Nat.le_refl _) hw rfl rfl (Nat.le_of_ble_eq_true rfl) dX0_lossPart_208 (fun v9 h_5 hp => ?_) (fun q_7 h_8 hw ht9 => ?_)
    rotate_left
    · exact gx_out C S0 (by rw [hTb]; decide) ht9 hw
    clear hw
    obtain ⟨r_6, rfl, hw⟩ := hp
    refine GK.at (p2 := 211) rfl ?_
    obtain ⟨a_9, rfl, hw⟩ := hw
    refine gc_X0_293 (pc := 211) (As := []) (rest := [.long x5]) C hCl (Nat.le_refl _) hw rfl rfl (Nat.le_of_ble_eq_true rfl) dX0_lossPart_211 (fun v9 h_10 hp => ?_) (fun q_12 h_13 hw ht9 => ?_)
    rotate_left
    · exact gx_out C S0 (by rw [hTb]; decide) ht9 hw
    clear hw
    obtain ⟨r_11, rfl, hw⟩ := hp
    refine GK.at (p2 := 214) rfl ?_
    refine gk_if_eq (pc := 214) (tgt := 222) C.1 dX0_lossPart_214 (by decide) (fun c_14 => ?_) (fun c_14 => ?_)
    · replace hw := hw.1 c_14
      refine gk_lconst (pc := 222) (v := 0) C.1 dX0_lossPart_222 (by decide) ?_
      refine GK.sub (lv' := [(0, .ref x0), (1, .int x1), (2, .int x2), (4, .ref x4), (7, .long x7), (9, .int x9)]) [0, 1, 2, 3, 5, 6] rfl ?_
      exact wk_X0_lossPart_223 C hC9 S0 hret hXn hini hTb hJ109 _ _ _ _ _ _ _ _ _ hw
    · replace hw := hw.2 c_14
      refine gk_lload (pc := 217) C.1 7 dX0_lossPart_217 rfl ?_
      refine gk_goto (pc := 219) (tgt := 223) C.1 dX0_lossPart_219 (by decide) ?_
      refine GK.sub (lv' := [(0, .ref x0), (1, .int x1), (2, .int x2), (4, .ref x4), (7, .long x7), (9, .int x9)]) [0, 1, 2, 3, 5, 6] rfl ?_
      exact wk_X0_lossPart_223 C hC9 S0 hret hXn hini hTb hJ109 _ _ _ _ _ _ _ _ _ hw
  · replace hw := hw.2 c_1
    refine gk_lload (pc := 137) C.1 7 dX0_lossPart_137 rfl ?_
    refine gk_iload (pc := 139) C.1 6 dX0_lossPart_139 rfl ?_
    refine gk_iload (pc := 141) C.1 8 dX0_lossPart_141 rfl ?_
    refine gc_X0_289 (pc := 143) (As := [.int x9, .int x12]) (rest := [.long x10]) C hCl (Nat.le_refl _) hw rfl rfl (Nat.le_of_ble_eq_true rfl) dX0_lossPart_143 (fun v9 h_15 hp => ?_) (fun q_17 h_18 hw ht9 => ?_)
    rotate_left
    · exact gx_out C S0 (by rw [hTb]; decide) ht9 hw
    clear hw
    obtain ⟨r_16, rfl, hw⟩ := hp
    refine GK.at (p2 := 146) rfl ?_
    refine gk_if_eq (pc := 146) (tgt := 153) C.1 dX0_lossPart_146 (by decide) (fun c_19 => ?_) (fun c_19 => ?_)
    · replace hw := hw.1 c_19
      refine gk_iload_n (pc := 153) C.1 1 dX0_lossPart_153 rfl rfl ?_
      refine gk_iconst (pc := 154) (v := 1) C.1 dX0_lossPart_154 (by decide) ?_
      refine gk_isub (pc := 155) C.1 dX0_lossPart_155 ?_
      refine gk_i2l (pc := 156) C.1 dX0_lossPart_156 ?_
      refine GK.sub (lv' := [(0, .ref x0), (1, .int x1), (2, .int x2), (4, .ref x4), (5, .long x5), (7, .long x7), (9, .int x9), (12, .int x12)]) [0, 1, 2, 3, 4, 5, 6, 8] rfl ?_
      exact wk_X0_lossPart_157 C hC9 S0 hret hXn hini hTb hJ109 ih _ _ _ _ _ _ _ _ _ _ _ hw
    · replace hw := hw.2 c_19
      refine gk_lconst (pc := 149) (v := 1) C.1 dX0_lossPart_149 (by decide) ?_
      refine gk_goto (pc := 150) (tgt := 157) C.1 dX0_lossPart_150 (by decide) ?_
      refine GK.sub (lv' := [(0, .ref x0), (1, .int x1), (2, .int x2), (4, .ref x4), (5, .long x5), (7, .long x7), (9, .int x9), (12, .int x12)]) [0, 1, 2, 3, 4, 5, 6, 8] rfl ?_
      exact wk_X0_lossPart_157 C hC9 S0 hret hXn hini hTb hJ109 ih _ _ _ _ _ _ _ _ _ _ _ hw
def wb_X0_lossPart_109 (cl : CT) (lm : Nat × Nat) (Q : QT) (E : ET) : Nat → Nat → Int32 → Int32 → Nat → Int64 → Int64 → Int32 → HS → Prop
  | 0 => fun _ _ _ _ _ _ _ _ => False
  | n + 1 => fun x0 x1 x2 x4 x5 x7 x9 h => (hT h x4 = 7) ∧ ((((1 <<< ((hI h 24 x4) &&& 31)) ≤ x9 → (cl 117 [.long x5, .long x7, .int x2] h (gL (fun r_3 h_2 => Q (some (.long r_3)) h_2)) E)) ∧ (¬ (1 <<< ((hI h 24 x4) &&& 31)) ≤ x9 → (∃ fu : Nat, wb_X0_lossPart_127 cl lm Q E (fun yx0 yx1 yx2 yx4 yx5 yx7 yx9 yh => wb_X0_lossPart_109 cl lm Q E n yx0 yx1 yx2 yx4 yx5 yx7 yx9 yh) fu x0 x1 x2 x4 x5 x7 x9 1 0 h))))
theorem wk_X0_lossPart_109 {X : Ev} {G : GG} {cl : CT} {lm : Nat × Nat} {Q : QT} {E : ET} {h0 : HS} {d2 : Nat} (C : HC X G RX0 cX0_lossPart (d2 + 1)) (hCl : CallsOK (ev_l X) G d2 cl ∧ hLm G lm ∧ 8 ≤ d2 ∧ LamsOK (ev_l X) G d2 cl) (S0 : HS0 X h0) (hret : (ev_h X).sig.returnType = (Option.some Jvm.ClassFile.FieldType.long)) (hXn : ev_n X = 13) (hini : True) (hTb : (ev_c X).exceptionTable.toList = []) : ∀ (n : Nat) (x0 : Nat) (x1 : Int32) (x2 : Int32) (x4 : Nat) (x5 : Int64) (x7 : Int64) (x9 : Int32) (h : HS), wb_X0_lossPart_109 cl lm Q E n x0 x1 x2 x4 x5 x7 x9 h → GH X G h (hQ X G h0 Q E) 109 [(0, .ref x0), (1, .int x1), (2, .int x2), (4, .ref x4), (5, .long x5), (7, .long x7), (9, .int x9)] [] := by
  have hlm := hCl.2.1
  have hd8 := hCl.2.2.1
  have hd2 : 1 ≤ d2 := Nat.le_trans (by decide) hd8
  have hLa := hCl.2.2.2
  have hd1 : 1 ≤ d2 + 1 := Nat.le_add_left _ _
  have hC9 := hCl
  replace hCl := hCl.1
  intro n
  induction n with
  | zero => intro x0 x1 x2 x4 x5 x7 x9 h hw; exact hw.elim
  | succ n ih =>
  intro x0 x1 x2 x4 x5 x7 x9 h hw
  unfold wb_X0_lossPart_109 at hw
  refine gk_iload (pc := 109) C.1 6 dX0_lossPart_109 rfl ?_
  refine gk_iconst (pc := 111) (v := 1) C.1 dX0_lossPart_111 (by decide) ?_
  refine gk_aload (pc := 112) C.1 3 dX0_lossPart_112 rfl ?_
  obtain ⟨ht, hw⟩ := hw
  refine gf_X0_149 (pc := 114) C ht dX0_lossPart_114 ?_
  refine gk_ishl (pc := 117) C.1 dX0_lossPart_117 ?_
  refine gk_icmp_ge (pc := 118) (tgt := 292) C.1 dX0_lossPart_118 (by decide) (fun c_1 => ?_) (fun c_1 => ?_)
  · replace hw := hw.1 c_1
    refine gk_lload (pc := 292) C.1 4 dX0_lossPart_292 rfl ?_
    refine gk_lload (pc := 294) C.1 5 dX0_lossPart_294 rfl ?_
    refine gk_iload_n (pc := 296) C.1 2 dX0_lossPart_296 rfl rfl ?_
    refine gc_X0_297 (pc := 297) (As := [.long x5, .long x7, .int x2]) (rest := []) C hCl (Nat.le_refl _) hw rfl rfl (Nat.le_of_ble_eq_true rfl) dX0_lossPart_297 (fun v9 h_2 hp => ?_) (fun q_4 h_5 hw ht9 => ?_)
    rotate_left
    · exact gx_out C S0 (by rw [hTb]; decide) ht9 hw
    clear hw
    obtain ⟨r_3, rfl, hw⟩ := hp
    refine GK.at (p2 := 300) rfl ?_
    exact gh_lret (pc := 300) C S0 hret dX0_lossPart_300 hw
  · replace hw := hw.2 c_1
    refine gk_lconst (pc := 121) (v := 1) C.1 dX0_lossPart_121 (by decide) ?_
    refine gk_lstore (pc := 122) (lv' := [(10, Value.long 1), (0, Value.ref x0), (1, Value.int x1), (2, Value.int x2), (4, Value.ref x4), (5, Value.long x5), (7, Value.long x7), (9, Value.int x9)]) C.1 dX0_lossPart_122 (by rw [hXn]; decide) (by first | rfl | simp [va_rf_S, va_rf_cat, cat_i, cat_a, cat_l, cat_f, fin4_0, fin4_1, fin4_2, fin4_3]) ?_
    refine gk_iconst (pc := 124) (v := 0) C.1 dX0_lossPart_124 (by decide) ?_
    refine gk_istore (pc := 125) (lv' := [(12, Value.int 0), (10, Value.long 1), (0, Value.ref x0), (1, Value.int x1), (2, Value.int x2), (4, Value.ref x4), (5, Value.long x5), (7, Value.long x7), (9, Value.int x9)]) C.1 dX0_lossPart_125 (by rw [hXn]; decide) (by first | rfl | simp [va_rf_S, va_rf_cat, cat_i, cat_a, cat_l, cat_f, fin4_0, fin4_1, fin4_2, fin4_3]) ?_
    refine GK.sub (lv' := [(0, .ref x0), (1, .int x1), (2, .int x2), (4, .ref x4), (5, .long x5), (7, .long x7), (9, .int x9), (10, .long 1), (12, .int 0)]) [2, 3, 4, 5, 6, 7, 8, 1, 0] rfl ?_
    obtain ⟨n9, hw⟩ := hw
    exact wk_X0_lossPart_127 C hC9 S0 hret hXn hini hTb ih n9 _ _ _ _ _ _ _ _ _ _ hw
def wb_X0_lossPart_83 (cl : CT) (lm : Nat × Nat) (Q : QT) (E : ET) : Nat → Nat → Int32 → Int32 → Nat → Int64 → Int64 → Int32 → HS → Prop
  | 0 => fun _ _ _ _ _ _ _ _ => False
  | n + 1 => fun x0 x1 x2 x4 x5 x7 x9 h => (hT h x4 = 7) ∧ ((((hI h 24 x4) ≤ x9 → (∃ fu : Nat, wb_X0_lossPart_109 cl lm Q E fu x0 x1 x2 x4 x5 x7 0 h)) ∧ (¬ (hI h 24 x4) ≤ x9 → (∀ x_2 : Int64, x_2 = x7 * ((x1 : Int32).toInt64) → (∀ x_3 : Int32, x_3 = x9 + 1 → (wb_X0_lossPart_83 cl lm Q E n x0 x1 x2 x4 x5 x_2 x_3 h))))))
theorem wk_X0_lossPart_83 {X : Ev} {G : GG} {cl : CT} {lm : Nat × Nat} {Q : QT} {E : ET} {h0 : HS} {d2 : Nat} (C : HC X G RX0 cX0_lossPart (d2 + 1)) (hCl : CallsOK (ev_l X) G d2 cl ∧ hLm G lm ∧ 8 ≤ d2 ∧ LamsOK (ev_l X) G d2 cl) (S0 : HS0 X h0) (hret : (ev_h X).sig.returnType = (Option.some Jvm.ClassFile.FieldType.long)) (hXn : ev_n X = 13) (hini : True) (hTb : (ev_c X).exceptionTable.toList = []) : ∀ (n : Nat) (x0 : Nat) (x1 : Int32) (x2 : Int32) (x4 : Nat) (x5 : Int64) (x7 : Int64) (x9 : Int32) (h : HS), wb_X0_lossPart_83 cl lm Q E n x0 x1 x2 x4 x5 x7 x9 h → GH X G h (hQ X G h0 Q E) 83 [(0, .ref x0), (1, .int x1), (2, .int x2), (4, .ref x4), (5, .long x5), (7, .long x7), (9, .int x9)] [] := by
  have hlm := hCl.2.1
  have hd8 := hCl.2.2.1
  have hd2 : 1 ≤ d2 := Nat.le_trans (by decide) hd8
  have hLa := hCl.2.2.2
  have hd1 : 1 ≤ d2 + 1 := Nat.le_add_left _ _
  have hC9 := hCl
  replace hCl := hCl.1
  intro n
  induction n with
  | zero => intro x0 x1 x2 x4 x5 x7 x9 h hw; exact hw.elim
  | succ n ih =>
  intro x0 x1 x2 x4 x5 x7 x9 h hw
  unfold wb_X0_lossPart_83 at hw
  refine gk_iload (pc := 83) C.1 6 dX0_lossPart_83 rfl ?_
  refine gk_aload (pc := 85) C.1 3 dX0_lossPart_85 rfl ?_
  obtain ⟨ht, hw⟩ := hw
  refine gf_X0_149 (pc := 87) C ht dX0_lossPart_87 ?_
  refine gk_icmp_ge (pc := 90) (tgt := 106) C.1 dX0_lossPart_90 (by decide) (fun c_1 => ?_) (fun c_1 => ?_)
  · replace hw := hw.1 c_1
    refine gk_iconst (pc := 106) (v := 0) C.1 dX0_lossPart_106 (by decide) ?_
    refine gk_istore (pc := 107) (lv' := [(9, Value.int 0), (0, Value.ref x0), (1, Value.int x1), (2, Value.int x2), (4, Value.ref x4), (5, Value.long x5), (7, Value.long x7)]) C.1 dX0_lossPart_107 (by rw [hXn]; decide) (by first | rfl | simp [va_rf_S, va_rf_cat, cat_i, cat_a, cat_l, cat_f, fin4_0, fin4_1, fin4_2, fin4_3]) ?_
    refine GK.sub (lv' := [(0, .ref x0), (1, .int x1), (2, .int x2), (4, .ref x4), (5, .long x5), (7, .long x7), (9, .int 0)]) [1, 2, 3, 4, 5, 6, 0] rfl ?_
    obtain ⟨n9, hw⟩ := hw
    exact wk_X0_lossPart_109 C hC9 S0 hret hXn hini hTb  n9 _ _ _ _ _ _ _ _ hw
  · replace hw := hw.2 c_1
    refine gk_lload (pc := 93) C.1 5 dX0_lossPart_93 rfl ?_
    refine gk_iload_n (pc := 95) C.1 1 dX0_lossPart_95 rfl rfl ?_
    refine gk_i2l (pc := 96) C.1 dX0_lossPart_96 ?_
    refine gk_lmul (pc := 97) C.1 dX0_lossPart_97 ?_
    obtain ⟨x_2, ex_2⟩ : ∃ z : Int64, z = x7 * ((x1 : Int32).toInt64) := ⟨_, rfl⟩
    rw [← ex_2]
    replace hw := hw x_2 ex_2
    refine gk_lstore (pc := 98) (lv' := [(7, Value.long x_2), (0, Value.ref x0), (1, Value.int x1), (2, Value.int x2), (4, Value.ref x4), (5, Value.long x5), (9, Value.int x9)]) C.1 dX0_lossPart_98 (by rw [hXn]; decide) (by first | rfl | simp [va_rf_S, va_rf_cat, cat_i, cat_a, cat_l, cat_f, fin4_0, fin4_1, fin4_2, fin4_3]) ?_
    obtain ⟨x_3, ex_3⟩ : ∃ z : Int32, z = x9 + 1 := ⟨_, rfl⟩
    replace hw := hw x_3 ex_3
    refine gk_iinc (pc := 100) (v := x_3) (lv' := [(9, Value.int x_3), (7, Value.long x_2), (0, Value.ref x0), (1, Value.int x1), (2, Value.int x2), (4, Value.ref x4), (5, Value.long x5)]) C.1 6 dX0_lossPart_100 rfl (by rw [ex_3]; rfl) (by rw [hXn]; decide) (by first | rfl | simp [va_rf_S, va_rf_cat, cat_i, cat_a, cat_l, cat_f, fin4_0, fin4_1, fin4_2, fin4_3]) ?_
    refine gk_goto (pc := 103) (tgt := 83) C.1 dX0_lossPart_103 (by decide) ?_
    refine GK.sub (lv' := [(0, .ref x0), (1, .int x1), (2, .int x2), (4, .ref x4), (5, .long x5), (7, .long x_2), (9, .int x_3)]) [2, 3, 4, 5, 6, 1, 0] rfl ?_
    exact ih _ _ _ _ _ _ _ _ hw
def wb_X0_lossPart_17 (cl : CT) (lm : Nat × Nat) (Q : QT) (E : ET) : Nat → Nat → Int32 → Int32 → Option Nat → Nat → Int32 → HS → Prop
  | 0 => fun _ _ _ _ _ _ _ => False
  | n + 1 => fun x0 x1 x2 x3 x4 x5 h => ∃ a_1 : Nat, x3 = some a_1 ∧ ((hT h a_1 = 7) ∧ ((((hI h 24 a_1) ≤ x5 → (∃ fu : Nat, wb_X0_lossPart_83 cl lm Q E fu x0 x1 x2 x4 0 1 0 h)) ∧ (¬ (hI h 24 a_1) ≤ x5 → ((hT h x4 = 7) ∧ (((6 ≤ (hI h 24 x4) → (wb_X0_lossPart_68 cl lm Q E (fun yx0 yx1 yx2 yx3 yx4 yx5 yh => wb_X0_lossPart_17 cl lm Q E n yx0 yx1 yx2 yx3 yx4 yx5 yh) x0 x1 x2 (some a_1) x4 x5 h)) ∧ (¬ 6 ≤ (hI h 24 x4) → (dp_Row_at cl a_1 [.int x5] h (gR (fun r_5 h_4 => ck_GathersAllFaults_Part h_4 r_5 ∧ (∃ a_8 : Nat, r_5 = some a_8 ∧ ((hT h_4 a_8 = 6) ∧ (∀ r_9 : Option Nat, r_9 = hR h_4 22 a_8 → ((∃ a_10 : Nat, r_9 = some a_10 ∧ ((hT h_4 a_10 = 2) ∧ (dp_Row_at cl a_1 [.int x5] h_4 (gR (fun r_12 h_11 => ck_GathersAllFaults_Part h_11 r_12 ∧ (dp_Row_add cl x4 [va_rf r_12] h_11 (gV (fun h_15 => wb_X0_lossPart_68 cl lm Q E (fun yx0 yx1 yx2 yx3 yx4 yx5 yh => wb_X0_lossPart_17 cl lm Q E n yx0 yx1 yx2 yx3 yx4 yx5 yh) x0 x1 x2 (some a_1) x4 x5 h_15)) E))) E))) ∨ ((∀ a_10 : Nat, r_9 = some a_10 → (hT h_4 a_10 = 3 ∨ hT h_4 a_10 = 4 ∨ hT h_4 a_10 = 5 ∨ hT h_4 a_10 = 300)) ∧ (wb_X0_lossPart_68 cl lm Q E (fun yx0 yx1 yx2 yx3 yx4 yx5 yh => wb_X0_lossPart_17 cl lm Q E n yx0 yx1 yx2 yx3 yx4 yx5 yh) x0 x1 x2 (some a_1) x4 x5 h_4)))))))) E)))))))))
theorem wk_X0_lossPart_17 {X : Ev} {G : GG} {cl : CT} {lm : Nat × Nat} {Q : QT} {E : ET} {h0 : HS} {d2 : Nat} (C : HC X G RX0 cX0_lossPart (d2 + 1)) (hCl : CallsOK (ev_l X) G d2 cl ∧ hLm G lm ∧ 8 ≤ d2 ∧ LamsOK (ev_l X) G d2 cl) (S0 : HS0 X h0) (hret : (ev_h X).sig.returnType = (Option.some Jvm.ClassFile.FieldType.long)) (hXn : ev_n X = 13) (hini : True) (hTb : (ev_c X).exceptionTable.toList = []) : ∀ (n : Nat) (x0 : Nat) (x1 : Int32) (x2 : Int32) (x3 : Option Nat) (x4 : Nat) (x5 : Int32) (h : HS), wb_X0_lossPart_17 cl lm Q E n x0 x1 x2 x3 x4 x5 h → GH X G h (hQ X G h0 Q E) 17 [(0, .ref x0), (1, .int x1), (2, .int x2), (3, va_rf x3), (4, .ref x4), (5, .int x5)] [] := by
  have hlm := hCl.2.1
  have hd8 := hCl.2.2.1
  have hd2 : 1 ≤ d2 := Nat.le_trans (by decide) hd8
  have hLa := hCl.2.2.2
  have hd1 : 1 ≤ d2 + 1 := Nat.le_add_left _ _
  have hC9 := hCl
  replace hCl := hCl.1
  intro n
  induction n with
  | zero => intro x0 x1 x2 x3 x4 x5 h hw; exact hw.elim
  | succ n ih =>
  intro x0 x1 x2 x3 x4 x5 h hw
  unfold wb_X0_lossPart_17 at hw
  refine gk_iload (pc := 17) C.1 5 dX0_lossPart_17 rfl ?_
  refine gk_qload_n (pc := 19) C.1 3 dX0_lossPart_19 rfl rfl ?_
  obtain ⟨a_1, rfl, hw⟩ := hw
  obtain ⟨ht, hw⟩ := hw
  refine gf_X0_149 (pc := 20) C ht dX0_lossPart_20 ?_
  refine gk_icmp_ge (pc := 23) (tgt := 74) C.1 dX0_lossPart_23 (by decide) (fun c_2 => ?_) (fun c_2 => ?_)
  · replace hw := hw.1 c_2
    refine gk_lconst (pc := 74) (v := 0) C.1 dX0_lossPart_74 (by decide) ?_
    refine gk_lstore (pc := 75) (lv' := [(5, Value.long 0), (0, Value.ref x0), (1, Value.int x1), (2, Value.int x2), (3, Value.ref a_1), (4, Value.ref x4)]) C.1 dX0_lossPart_75 (by rw [hXn]; decide) (by first | rfl | simp [va_rf_S, va_rf_cat, cat_i, cat_a, cat_l, cat_f, fin4_0, fin4_1, fin4_2, fin4_3]) ?_
    refine gk_lconst (pc := 77) (v := 1) C.1 dX0_lossPart_77 (by decide) ?_
    refine gk_lstore (pc := 78) (lv' := [(7, Value.long 1), (5, Value.long 0), (0, Value.ref x0), (1, Value.int x1), (2, Value.int x2), (3, Value.ref a_1), (4, Value.ref x4)]) C.1 dX0_lossPart_78 (by rw [hXn]; decide) (by first | rfl | simp [va_rf_S, va_rf_cat, cat_i, cat_a, cat_l, cat_f, fin4_0, fin4_1, fin4_2, fin4_3]) ?_
    refine gk_iconst (pc := 80) (v := 0) C.1 dX0_lossPart_80 (by decide) ?_
    refine gk_istore (pc := 81) (lv' := [(9, Value.int 0), (7, Value.long 1), (5, Value.long 0), (0, Value.ref x0), (1, Value.int x1), (2, Value.int x2), (3, Value.ref a_1), (4, Value.ref x4)]) C.1 dX0_lossPart_81 (by rw [hXn]; decide) (by first | rfl | simp [va_rf_S, va_rf_cat, cat_i, cat_a, cat_l, cat_f, fin4_0, fin4_1, fin4_2, fin4_3]) ?_
    refine GK.sub (lv' := [(0, .ref x0), (1, .int x1), (2, .int x2), (4, .ref x4), (5, .long 0), (7, .long 1), (9, .int 0)]) [3, 4, 5, 7, 2, 1, 0] rfl ?_
    obtain ⟨n9, hw⟩ := hw
    exact wk_X0_lossPart_83 C hC9 S0 hret hXn hini hTb  n9 _ _ _ _ _ _ _ _ hw
  · replace hw := hw.2 c_2
    refine gk_aload (pc := 26) C.1 4 dX0_lossPart_26 rfl ?_
    obtain ⟨ht, hw⟩ := hw
    refine gf_X0_149 (pc := 28) C ht dX0_lossPart_28 ?_
    refine gk_bipush (pc := 31) (v := 6) C.1 dX0_lossPart_31 (by decide) ?_
    refine gk_icmp_ge (pc := 33) (tgt := 68) C.1 dX0_lossPart_33 (by decide) (fun c_3 => ?_) (fun c_3 => ?_)
    · replace hw := hw.1 c_3
      refine GK.sub (lv' := [(0, .ref x0), (1, .int x1), (2, .int x2), (3, va_rf (some a_1)), (4, .ref x4), (5, .int x5)]) [0, 1, 2, 3, 4, 5] rfl ?_
      exact wk_X0_lossPart_68 C hC9 S0 hret hXn hini hTb ih _ _ _ _ _ _ _ hw
    · replace hw := hw.2 c_3
      refine gk_aload_n (pc := 36) C.1 3 dX0_lossPart_36 rfl rfl ?_
      refine gk_iload (pc := 37) C.1 5 dX0_lossPart_37 rfl ?_
      refine gc_X0_152 (pc := 39) (As := [.int x5]) (rest := []) C hCl (Nat.le_refl _) hw rfl rfl (Nat.le_of_ble_eq_true rfl) dX0_lossPart_39 (fun v9 h_4 hp => ?_) (fun q_6 h_7 hw ht9 => ?_)
      rotate_left
      · exact gx_out C S0 (by rw [hTb]; decide) ht9 hw
      clear hw
      obtain ⟨r_5, rfl, hw⟩ := hp
      refine GK.at (p2 := 42) rfl ?_
      obtain ⟨hs, hw⟩ := hw
      refine gh_ckc (pc := 42) (r := r_5) C q1641 (ck_GathersAllFaults_Part_ok hs) dX0_lossPart_42 ?_
      obtain ⟨a_8, rfl, hw⟩ := hw
      obtain ⟨ht, hw⟩ := hw
      refine gf_X0_160 (pc := 45) C ht dX0_lossPart_45 (fun r_9 er_9 => ?_)
      replace hw := hw r_9 er_9
      rcases hw with ⟨a_10, rfl, hs, hw⟩ | ⟨hs, hw⟩
      · skip
        refine gi_X0_48_y (pc := 48) C hs dX0_lossPart_48 ?_
        refine gk_if_eq (pc := 51) (tgt := 68) C.1 dX0_lossPart_51 (by decide) (fun c9 => ?_) (fun c9 => ?_)
        · exact absurd c9 (by decide)
        refine gk_aload (pc := 54) C.1 4 dX0_lossPart_54 rfl ?_
        refine gk_aload_n (pc := 56) C.1 3 dX0_lossPart_56 rfl rfl ?_
        refine gk_iload (pc := 57) C.1 5 dX0_lossPart_57 rfl ?_
        refine gc_X0_152 (pc := 59) (As := [.int x5]) (rest := [.ref x4]) C hCl (Nat.le_refl _) hw rfl rfl (Nat.le_of_ble_eq_true rfl) dX0_lossPart_59 (fun v9 h_11 hp => ?_) (fun q_13 h_14 hw ht9 => ?_)
        rotate_left
        · exact gx_out C S0 (by rw [hTb]; decide) ht9 hw
        clear hw
        obtain ⟨r_12, rfl, hw⟩ := hp
        refine GK.at (p2 := 62) rfl ?_
        obtain ⟨hs, hw⟩ := hw
        refine gh_ckc (pc := 62) (r := r_12) C q1641 (ck_GathersAllFaults_Part_ok hs) dX0_lossPart_62 ?_
        refine gc_X0_286 (pc := 65) (As := [va_rf r_12]) (rest := []) C hCl (Nat.le_refl _) hw rfl rfl (Nat.le_of_ble_eq_true rfl) dX0_lossPart_65 (fun v9 h_15 hp => ?_) (fun q_16 h_17 hw ht9 => ?_)
        rotate_left
        · exact gx_out C S0 (by rw [hTb]; decide) ht9 hw
        clear hw
        obtain ⟨rfl, hw⟩ := hp
        refine GK.at (p2 := 68) rfl ?_
        refine GK.sub (lv' := [(0, .ref x0), (1, .int x1), (2, .int x2), (3, va_rf (some a_1)), (4, .ref x4), (5, .int x5)]) [0, 1, 2, 3, 4, 5] rfl ?_
        exact wk_X0_lossPart_68 C hC9 S0 hret hXn hini hTb ih _ _ _ _ _ _ _ hw
      · refine gi_X0_48_n (pc := 48) (r := r_9) C hs dX0_lossPart_48 ?_
        refine gk_if_eq (pc := 51) (tgt := 68) C.1 dX0_lossPart_51 (by decide) (fun c9 => ?_) (fun c9 => ?_)
        rotate_left
        · exact absurd rfl c9
        refine GK.sub (lv' := [(0, .ref x0), (1, .int x1), (2, .int x2), (3, va_rf (some a_1)), (4, .ref x4), (5, .int x5)]) [0, 1, 2, 3, 4, 5] rfl ?_
        exact wk_X0_lossPart_68 C hC9 S0 hret hXn hini hTb ih _ _ _ _ _ _ _ hw
def wb_X0_lossPart (cl : CT) (lm : Nat × Nat) (Q : QT) (E : ET) (x0 : Nat) (x1 : Int32) (x2 : Int32) (h : HS) : Prop := dp_GathersAllFaults_parts cl x0 [] h (gR (fun r_2 h_1 => hZ h_1 + 1 ≤ lm.1 ∧ (hL h_1 + 2 ≤ lm.2 ∧ (∀ (a_6 : Nat) (h_5 : HS), a_6 = hZ h_1 → h_5 = hNew h_1 7 0 2 → (cl 247 (.ref a_6 :: []) h_5 (gV (fun h_7 => ∃ fu : Nat, wb_X0_lossPart_17 cl lm Q E fu x0 x1 x2 r_2 a_6 0 h_7)) E))))) E
theorem wx_X0_lossPart {l : Launch} (hst : l.stackTraces = false) {G : GG} {cl : CT} {lm : Nat × Nat} {Q : QT} {E : ET} {d2 : Nat} (hCl : CallsOK l G d2 cl ∧ hLm G lm ∧ 8 ≤ d2 ∧ LamsOK l G d2 cl) {x0 : Nat} {x1 : Int32} {x2 : Int32} {h : HS} (hw : wb_X0_lossPart cl lm Q E x0 x1 x2 h) : HMet l G yX0_lossPart (ws_ yX0_lossPart cX0_lossPart 13 ((Option.some Jvm.ClassFile.FieldType.long))) (d2 + 1) [.ref x0, .int x1, .int x2] h Q E := by
  refine gh_met (own := RX0) rfl (by decide +kernel) hst (by simp only [lg_sl_i, lg_sl_r, lg_sl_a, lg_sl_2, lg_sl_f, lg_sl_0]; decide) (fun X hXl hXn hret hnm hTb h0 eh C S0 => ?_)
  subst hXl
  have hlm := hCl.2.1
  have hd8 := hCl.2.2.1
  have hd2 : 1 ≤ d2 := Nat.le_trans (by decide) hd8
  have hLa := hCl.2.2.2
  have hd1 : 1 ≤ d2 + 1 := Nat.le_add_left _ _
  have hC9 := hCl
  replace hCl := hCl.1
  have hini : True := trivial
  unfold wb_X0_lossPart at hw
  refine GK.sub (lv' := [(0, .ref x0), (1, .int x1), (2, .int x2)]) [0, 1, 2] (by simp only [lv_args_i, lv_args_r, lv_args_a, lv_args_l, lv_args_f, lv_args_0]; rfl) ?_
  refine gk_aload_n (pc := 0) C.1 0 dX0_lossPart_0 rfl rfl ?_
  refine gc_X0_145 (pc := 1) (As := []) (rest := []) C hCl (Nat.le_refl _) hw rfl rfl (Nat.le_of_ble_eq_true rfl) dX0_lossPart_1 (fun v9 h_1 hp => ?_) (fun q_3 h_4 hw ht9 => ?_)
  rotate_left
  · exact gx_out C S0 (by rw [hTb]; decide) ht9 hw
  clear hw
  obtain ⟨r_2, rfl, hw⟩ := hp
  refine GK.at (p2 := 4) rfl ?_
  refine gk_qstore_n (pc := 4) (lv' := [(3, va_rf r_2), (0, Value.ref x0), (1, Value.int x1), (2, Value.int x2)]) C.1 dX0_lossPart_4 rfl (by rw [hXn]; decide) (by first | rfl | simp [va_rf_S, va_rf_cat, cat_i, cat_a, cat_l, cat_f, fin4_0, fin4_1, fin4_2, fin4_3]) ?_
  obtain ⟨hr1, hr2, hw⟩ := hw
  refine gn_X0_138 (pc := 5) C (hlm.1 ▸ hr1) (hlm.2 ▸ hr2) dX0_lossPart_5 (fun h_5 eh_5 => ?_)
  obtain ⟨a_6, ea_6⟩ : ∃ z : Nat, z = hZ h_1 := ⟨_, rfl⟩
  rw [← ea_6]
  replace hw := hw a_6 h_5 ea_6 eh_5
  refine gk_dup (pc := 8) C.1 dX0_lossPart_8 rfl ?_
  refine gc_X0_140 (pc := 9) (As := []) (rest := [.ref a_6]) C hCl (Nat.le_refl _) hw rfl rfl (Nat.le_of_ble_eq_true rfl) dX0_lossPart_9 (fun v9 h_7 hp => ?_) (fun q_8 h_9 hw ht9 => ?_)
  rotate_left
  · exact gx_out C S0 (by rw [hTb]; decide) ht9 hw
  clear hw
  obtain ⟨rfl, hw⟩ := hp
  refine GK.at (p2 := 12) rfl ?_
  refine gk_astore (pc := 12) (lv' := [(4, Value.ref a_6), (3, va_rf r_2), (0, Value.ref x0), (1, Value.int x1), (2, Value.int x2)]) C.1 dX0_lossPart_12 (by rw [hXn]; decide) (by first | rfl | simp [va_rf_S, va_rf_cat, cat_i, cat_a, cat_l, cat_f, fin4_0, fin4_1, fin4_2, fin4_3]) ?_
  refine gk_iconst (pc := 14) (v := 0) C.1 dX0_lossPart_14 (by decide) ?_
  refine gk_istore (pc := 15) (lv' := [(5, Value.int 0), (4, Value.ref a_6), (3, va_rf r_2), (0, Value.ref x0), (1, Value.int x1), (2, Value.int x2)]) C.1 dX0_lossPart_15 (by rw [hXn]; decide) (by first | rfl | simp [va_rf_S, va_rf_cat, cat_i, cat_a, cat_l, cat_f, fin4_0, fin4_1, fin4_2, fin4_3]) ?_
  refine GK.sub (lv' := [(0, .ref x0), (1, .int x1), (2, .int x2), (3, va_rf r_2), (4, .ref a_6), (5, .int 0)]) [3, 4, 5, 2, 1, 0] rfl ?_
  obtain ⟨n9, hw⟩ := hw
  exact wk_X0_lossPart_17 C hC9 S0 hret hXn hini hTb  n9 _ _ _ _ _ _ _ hw
/-! 97: GathersAllFaults.lossTold(II)J -/
def wb_X0_lossTold_22 (cl : CT) (lm : Nat × Nat) (Q : QT) (E : ET) (x0 : Nat) (s0 : Nat) (h : HS) : Prop := dp_GathersAllFaults_far cl x0 [.ref s0] h (gL (fun r_2 h_1 => Q (some (.long r_2)) h_1)) E
theorem wk_X0_lossTold_22 {X : Ev} {G : GG} {cl : CT} {lm : Nat × Nat} {Q : QT} {E : ET} {h0 : HS} {d2 : Nat} (C : HC X G RX0 cX0_lossTold (d2 + 1)) (hCl : CallsOK (ev_l X) G d2 cl ∧ hLm G lm ∧ 8 ≤ d2 ∧ LamsOK (ev_l X) G d2 cl) (S0 : HS0 X h0) (hret : (ev_h X).sig.returnType = (Option.some Jvm.ClassFile.FieldType.long)) (hXn : ev_n X = 4) (hini : True) (hTb : (ev_c X).exceptionTable.toList = tableOf [(0, 21, 22, 342)]) : ∀ (x0 : Nat) (s0 : Nat) (h : HS), wb_X0_lossTold_22 cl lm Q E x0 s0 h → GH X G h (hQ X G h0 Q E) 22 [(0, .ref x0)] [.ref s0] := by
  have hlm := hCl.2.1
  have hd8 := hCl.2.2.1
  have hd2 : 1 ≤ d2 := Nat.le_trans (by decide) hd8
  have hLa := hCl.2.2.2
  have hd1 : 1 ≤ d2 + 1 := Nat.le_add_left _ _
  have hC9 := hCl
  replace hCl := hCl.1
  intro x0 s0 h hw
  unfold wb_X0_lossTold_22 at hw
  refine gk_astore_n (pc := 22) (lv' := [(3, Value.ref s0), (0, Value.ref x0)]) C.1 dX0_lossTold_22 rfl (by rw [hXn]; decide) (by first | rfl | simp [va_rf_S, va_rf_cat, cat_i, cat_a, cat_l, cat_f, fin4_0, fin4_1, fin4_2, fin4_3]) ?_
  refine gk_aload_n (pc := 23) C.1 1 dX0_lossTold_23 rfl rfl ?_
  refine gk_aload_n (pc := 24) C.1 0 dX0_lossTold_24 rfl rfl ?_
  refine gc_X0_448 (pc := 25) (As := [.ref s0]) (rest := []) C hCl (Nat.le_refl _) hw rfl rfl (Nat.le_of_ble_eq_true rfl) dX0_lossTold_25 (fun v9 h_1 hp => ?_) (fun q_3 h_4 hw ht9 => ?_)
  rotate_left
  · exact gx_out C S0 (by rw [hTb]; decide) ht9 hw
  clear hw
  obtain ⟨r_2, rfl, hw⟩ := hp
  refine GK.at (p2 := 28) rfl ?_
  exact gh_lret (pc := 28) C S0 hret dX0_lossTold_28 hw
def wb_X0_lossTold (cl : CT) (lm : Nat × Nat) (Q : QT) (E : ET) (x0 : Nat) (x1 : Int32) (x2 : Int32) (h : HS) : Prop := cl 141 [.long ((x1 : Int32).toInt64), .long 2, .long 20] h (gV (fun h_1 => cl 105 [.int x2] h_1 (gV (fun h_4 => dp_GathersAllFaults_lossPart cl x0 [.int x1, .int x2] h_4 (gL (fun r_8 h_7 => Q (some (.long r_8)) h_7)) (fun q_9 h_10 => wb_X0_lossTold_22 cl lm Q E x0 q_9 h_10))) (fun q_5 h_6 => wb_X0_lossTold_22 cl lm Q E x0 q_5 h_6))) (fun q_2 h_3 => wb_X0_lossTold_22 cl lm Q E x0 q_2 h_3)
theorem wx_X0_lossTold {l : Launch} (hst : l.stackTraces = false) {G : GG} {cl : CT} {lm : Nat × Nat} {Q : QT} {E : ET} {d2 : Nat} (hCl : CallsOK l G d2 cl ∧ hLm G lm ∧ 8 ≤ d2 ∧ LamsOK l G d2 cl) {x0 : Nat} {x1 : Int32} {x2 : Int32} {h : HS} (hw : wb_X0_lossTold cl lm Q E x0 x1 x2 h) : HMet l G yX0_lossTold (wsW_ yX0_lossTold cX0_lossTold 4 ((Option.some Jvm.ClassFile.FieldType.long)) [(0, 21, 22, 342)]) (d2 + 1) [.ref x0, .int x1, .int x2] h Q E := by
  refine gh_metW (own := RX0) rfl (by decide +kernel) hst (by simp only [lg_sl_i, lg_sl_r, lg_sl_a, lg_sl_2, lg_sl_f, lg_sl_0]; decide) (fun X hXl hXn hret hnm hTb h0 eh C S0 => ?_)
  subst hXl
  have hlm := hCl.2.1
  have hd8 := hCl.2.2.1
  have hd2 : 1 ≤ d2 := Nat.le_trans (by decide) hd8
  have hLa := hCl.2.2.2
  have hd1 : 1 ≤ d2 + 1 := Nat.le_add_left _ _
  have hC9 := hCl
  replace hCl := hCl.1
  have hini : True := trivial
  unfold wb_X0_lossTold at hw
  refine GK.sub (lv' := [(0, .ref x0), (1, .int x1), (2, .int x2)]) [0, 1, 2] (by simp only [lv_args_i, lv_args_r, lv_args_a, lv_args_l, lv_args_f, lv_args_0]; rfl) ?_
  refine gk_iload_n (pc := 0) C.1 1 dX0_lossTold_0 rfl rfl ?_
  refine gk_i2l (pc := 1) C.1 dX0_lossTold_1 ?_
  refine gk_ldc2 (pc := 2) (v := 2) C.1 q2030 dX0_lossTold_2 ?_
  refine gk_ldc2 (pc := 5) (v := 20) C.1 q1904 dX0_lossTold_5 ?_
  refine gc_X0_184 (pc := 8) (As := [.long ((x1 : Int32).toInt64), .long 2, .long 20]) (rest := []) C hCl (Nat.le_refl _) hw rfl rfl (Nat.le_of_ble_eq_true rfl) dX0_lossTold_8 (fun v9 h_1 hp => ?_) (fun q_2 h_3 hw ht9 => ?_)
  rotate_left
  · refine gx_catch C [] ⟨0, 21, 22, 342⟩ [] (by rw [hTb]; rfl) (by decide) (by decide) (by decide) q327 ⟨q2731, q2730⟩ ht9 ?_
    refine GK.sub (lv' := [(0, .ref x0)]) [0] rfl ?_
    exact wk_X0_lossTold_22 C hC9 S0 hret hXn hini hTb  _ _ _ hw
  clear hw
  obtain ⟨rfl, hw⟩ := hp
  refine GK.at (p2 := 11) rfl ?_
  refine gk_iload_n (pc := 11) C.1 2 dX0_lossTold_11 rfl rfl ?_
  refine gc_X0_226 (pc := 12) (As := [.int x2]) (rest := []) C hCl (Nat.le_refl _) hw rfl rfl (Nat.le_of_ble_eq_true rfl) dX0_lossTold_12 (fun v9 h_4 hp => ?_) (fun q_5 h_6 hw ht9 => ?_)
  rotate_left
  · refine gx_catch C [] ⟨0, 21, 22, 342⟩ [] (by rw [hTb]; rfl) (by decide) (by decide) (by decide) q327 ⟨q2731, q2730⟩ ht9 ?_
    refine GK.sub (lv' := [(0, .ref x0)]) [0] rfl ?_
    exact wk_X0_lossTold_22 C hC9 S0 hret hXn hini hTb  _ _ _ hw
  clear hw
  obtain ⟨rfl, hw⟩ := hp
  refine GK.at (p2 := 15) rfl ?_
  refine gk_aload_n (pc := 15) C.1 0 dX0_lossTold_15 rfl rfl ?_
  refine gk_iload_n (pc := 16) C.1 1 dX0_lossTold_16 rfl rfl ?_
  refine gk_iload_n (pc := 17) C.1 2 dX0_lossTold_17 rfl rfl ?_
  refine gc_X0_444 (pc := 18) (As := [.int x1, .int x2]) (rest := []) C hCl (Nat.le_refl _) hw rfl rfl (Nat.le_of_ble_eq_true rfl) dX0_lossTold_18 (fun v9 h_7 hp => ?_) (fun q_9 h_10 hw ht9 => ?_)
  rotate_left
  · refine gx_catch C [] ⟨0, 21, 22, 342⟩ [] (by rw [hTb]; rfl) (by decide) (by decide) (by decide) q327 ⟨q2731, q2730⟩ ht9 ?_
    refine GK.sub (lv' := [(0, .ref x0)]) [0] rfl ?_
    exact wk_X0_lossTold_22 C hC9 S0 hret hXn hini hTb  _ _ _ hw
  clear hw
  obtain ⟨r_8, rfl, hw⟩ := hp
  refine GK.at (p2 := 21) rfl ?_
  exact gh_lret (pc := 21) C S0 hret dX0_lossTold_21 hw
/-! 98: GathersAllFaults.lots(III)I -/
def wb_X0_lots (cl : CT) (lm : Nat × Nat) (Q : QT) (E : ET) (x0 : Nat) (x1 : Int32) (x2 : Int32) (x3 : Int32) (h : HS) : Prop := dp_GathersAllFaults_act cl x0 [.int 25, .int x1, .int x2, .int x3] h (gI (fun r_2 h_1 => Q (some (.int r_2)) h_1)) E
theorem wx_X0_lots {l : Launch} (hst : l.stackTraces = false) {G : GG} {cl : CT} {lm : Nat × Nat} {Q : QT} {E : ET} {d2 : Nat} (hCl : CallsOK l G d2 cl ∧ hLm G lm ∧ 8 ≤ d2 ∧ LamsOK l G d2 cl) {x0 : Nat} {x1 : Int32} {x2 : Int32} {x3 : Int32} {h : HS} (hw : wb_X0_lots cl lm Q E x0 x1 x2 x3 h) : HMet l G yX0_lots (ws_ yX0_lots cX0_lots 4 ((Option.some Jvm.ClassFile.FieldType.int))) (d2 + 1) [.ref x0, .int x1, .int x2, .int x3] h Q E := by
  refine gh_met (own := RX0) rfl (by decide +kernel) hst (by simp only [lg_sl_i, lg_sl_r, lg_sl_a, lg_sl_2, lg_sl_f, lg_sl_0]; decide) (fun X hXl hXn hret hnm hTb h0 eh C S0 => ?_)
  subst hXl
  have hlm := hCl.2.1
  have hd8 := hCl.2.2.1
  have hd2 : 1 ≤ d2 := Nat.le_trans (by decide) hd8
  have hLa := hCl.2.2.2
  have hd1 : 1 ≤ d2 + 1 := Nat.le_add_left _ _
  have hC9 := hCl
  replace hCl := hCl.1
  have hini : True := trivial
  unfold wb_X0_lots at hw
  refine GK.sub (lv' := [(0, .ref x0), (1, .int x1), (2, .int x2), (3, .int x3)]) [0, 1, 2, 3] (by simp only [lv_args_i, lv_args_r, lv_args_a, lv_args_l, lv_args_f, lv_args_0]; rfl) ?_
  refine gk_aload_n (pc := 0) C.1 0 dX0_lots_0 rfl rfl ?_
  refine gk_bipush (pc := 1) (v := 25) C.1 dX0_lots_1 (by decide) ?_
  refine gk_iload_n (pc := 3) C.1 1 dX0_lots_3 rfl rfl ?_
  refine gk_iload_n (pc := 4) C.1 2 dX0_lots_4 rfl rfl ?_
  refine gk_iload_n (pc := 5) C.1 3 dX0_lots_5 rfl rfl ?_
  refine gc_X0_455 (pc := 6) (As := [.int 25, .int x1, .int x2, .int x3]) (rest := []) C hCl (Nat.le_refl _) hw rfl rfl (Nat.le_of_ble_eq_true rfl) dX0_lots_6 (fun v9 h_1 hp => ?_) (fun q_3 h_4 hw ht9 => ?_)
  rotate_left
  · exact gx_out C S0 (by rw [hTb]; decide) ht9 hw
  clear hw
  obtain ⟨r_2, rfl, hw⟩ := hp
  refine GK.at (p2 := 9) rfl ?_
  exact gh_iret (pc := 9) C S0 hret dX0_lots_9 hw
/-! 99: GathersAllFaults.lotsTold(III)I -/
def wb_X0_lotsTold_128 (cl : CT) (lm : Nat × Nat) (Q : QT) (E : ET) (J27 : Nat → Int32 → Int32 → Int32 → Int32 → Int32 → HS → Prop) (x0 : Nat) (x1 : Int32) (x3 : Int32) (x4 : Int32) (x6 : Int32) (s0 : Int32) (s1 : Int32) (h : HS) : Prop := ∀ x_1 : Int32, x_1 = s0 + s1 → (∀ x_2 : Int32, x_2 = x6 + 1 → (J27 x0 x1 x3 x4 x_1 x_2 h))
theorem wk_X0_lotsTold_128 {X : Ev} {G : GG} {cl : CT} {lm : Nat × Nat} {Q : QT} {E : ET} {h0 : HS} {d2 : Nat} {J27 : Nat → Int32 → Int32 → Int32 → Int32 → Int32 → HS → Prop} (C : HC X G RX0 cX0_lotsTold (d2 + 1)) (hCl : CallsOK (ev_l X) G d2 cl ∧ hLm G lm ∧ 8 ≤ d2 ∧ LamsOK (ev_l X) G d2 cl) (S0 : HS0 X h0) (hret : (ev_h X).sig.returnType = (Option.some Jvm.ClassFile.FieldType.int)) (hXn : ev_n X = 9) (hini : True) (hTb : (ev_c X).exceptionTable.toList = []) (hJ27 : ∀ (x0 : Nat) (x1 : Int32) (x3 : Int32) (x4 : Int32) (x5 : Int32) (x6 : Int32) (h : HS), J27 x0 x1 x3 x4 x5 x6 h → GH X G h (hQ X G h0 Q E) 27 [(0, .ref x0), (1, .int x1), (3, .int x3), (4, .int x4), (5, .int x5), (6, .int x6)] []) : ∀ (x0 : Nat) (x1 : Int32) (x3 : Int32) (x4 : Int32) (x6 : Int32) (s0 : Int32) (s1 : Int32) (h : HS), wb_X0_lotsTold_128 cl lm Q E J27 x0 x1 x3 x4 x6 s0 s1 h → GH X G h (hQ X G h0 Q E) 128 [(0, .ref x0), (1, .int x1), (3, .int x3), (4, .int x4), (6, .int x6)] [.int s1, .int s0] := by
  have hlm := hCl.2.1
  have hd8 := hCl.2.2.1
  have hd2 : 1 ≤ d2 := Nat.le_trans (by decide) hd8
  have hLa := hCl.2.2.2
  have hd1 : 1 ≤ d2 + 1 := Nat.le_add_left _ _
  have hC9 := hCl
  replace hCl := hCl.1
  intro x0 x1 x3 x4 x6 s0 s1 h hw
  unfold wb_X0_lotsTold_128 at hw
  refine gk_iadd (pc := 128) C.1 dX0_lotsTold_128 ?_
  obtain ⟨x_1, ex_1⟩ : ∃ z : Int32, z = s0 + s1 := ⟨_, rfl⟩
  rw [← ex_1]
  replace hw := hw x_1 ex_1
  refine gk_istore (pc := 129) (lv' := [(5, Value.int x_1), (0, Value.ref x0), (1, Value.int x1), (3, Value.int x3), (4, Value.int x4), (6, Value.int x6)]) C.1 dX0_lotsTold_129 (by rw [hXn]; decide) (by first | rfl | simp [va_rf_S, va_rf_cat, cat_i, cat_a, cat_l, cat_f, fin4_0, fin4_1, fin4_2, fin4_3]) ?_
  obtain ⟨x_2, ex_2⟩ : ∃ z : Int32, z = x6 + 1 := ⟨_, rfl⟩
  replace hw := hw x_2 ex_2
  refine gk_iinc (pc := 131) (v := x_2) (lv' := [(6, Value.int x_2), (5, Value.int x_1), (0, Value.ref x0), (1, Value.int x1), (3, Value.int x3), (4, Value.int x4)]) C.1 5 dX0_lotsTold_131 rfl (by rw [ex_2]; rfl) (by rw [hXn]; decide) (by first | rfl | simp [va_rf_S, va_rf_cat, cat_i, cat_a, cat_l, cat_f, fin4_0, fin4_1, fin4_2, fin4_3]) ?_
  refine gk_goto (pc := 134) (tgt := 27) C.1 dX0_lotsTold_134 (by decide) ?_
  refine GK.sub (lv' := [(0, .ref x0), (1, .int x1), (3, .int x3), (4, .int x4), (5, .int x_1), (6, .int x_2)]) [2, 3, 4, 5, 1, 0] rfl ?_
  exact hJ27 _ _ _ _ _ _ _ hw
def wb_X0_lotsTold_70 (cl : CT) (lm : Nat × Nat) (Q : QT) (E : ET) (J27 : Nat → Int32 → Int32 → Int32 → Int32 → Int32 → HS → Prop) : Nat → Nat → Int32 → Int32 → Int32 → Int32 → Int32 → Option Nat → Int32 → HS → Prop
  | 0 => fun _ _ _ _ _ _ _ _ _ => False
  | n + 1 => fun x0 x1 x3 x4 x5 x6 x7 x8 h => ((x8 < 0 → (∃ a_2 : Nat, x7 = some a_2 ∧ ((hT h a_2 = 9) ∧ (∀ r_3 : Option Nat, r_3 = hR h 28 a_2 → (∃ a_4 : Nat, r_3 = some a_4 ∧ ((hT h a_4 = 7) ∧ (∀ x_5 : Int32, x_5 = x4 + (hI h 24 a_4) → (dp_Finding_isNone cl a_2 [] h (gI (fun r_7 h_6 => ((r_7 = 0 → (wb_X0_lotsTold_128 cl lm Q E J27 x0 x1 x3 x_5 x6 x5 0 h_6)) ∧ (¬ r_7 = 0 → (wb_X0_lotsTold_128 cl lm Q E J27 x0 x1 x3 x_5 x6 x5 1 h_6))))) E)))))))) ∧ (¬ x8 < 0 → ((hT h x0 = 1) ∧ (∀ r_11 : Option Nat, r_11 = hR h 14 x0 → (∃ a_12 : Nat, r_11 = some a_12 ∧ (hT h a_12 = 101 ∧ (vp_in x8 (hN h a_12) ∧ ((hT h x0 = 1) ∧ (∀ r_13 : Option Nat, r_13 = hR h 15 x0 → (∃ a_14 : Nat, r_13 = some a_14 ∧ (hT h a_14 = 114 ∧ (vp_in x8 (hN h a_14) ∧ (∀ r_15 : Option Nat, r_15 = hB h a_14 x8.toNatClampNeg → (dp_GathersAllFaults_swap cl x0 [.int (hA h a_12 x8.toNatClampNeg), va_rf r_15] h (gR (fun r_17 h_16 => ∀ x_20 : Int32, x_20 = x8 + (-1) → (wb_X0_lotsTold_70 cl lm Q E J27 n x0 x1 x3 x4 x5 x6 x7 x_20 h_16))) E))))))))))))))
theorem wk_X0_lotsTold_70 {X : Ev} {G : GG} {cl : CT} {lm : Nat × Nat} {Q : QT} {E : ET} {h0 : HS} {d2 : Nat} {J27 : Nat → Int32 → Int32 → Int32 → Int32 → Int32 → HS → Prop} (C : HC X G RX0 cX0_lotsTold (d2 + 1)) (hCl : CallsOK (ev_l X) G d2 cl ∧ hLm G lm ∧ 8 ≤ d2 ∧ LamsOK (ev_l X) G d2 cl) (S0 : HS0 X h0) (hret : (ev_h X).sig.returnType = (Option.some Jvm.ClassFile.FieldType.int)) (hXn : ev_n X = 9) (hini : True) (hTb : (ev_c X).exceptionTable.toList = []) (hJ27 : ∀ (x0 : Nat) (x1 : Int32) (x3 : Int32) (x4 : Int32) (x5 : Int32) (x6 : Int32) (h : HS), J27 x0 x1 x3 x4 x5 x6 h → GH X G h (hQ X G h0 Q E) 27 [(0, .ref x0), (1, .int x1), (3, .int x3), (4, .int x4), (5, .int x5), (6, .int x6)] []) : ∀ (n : Nat) (x0 : Nat) (x1 : Int32) (x3 : Int32) (x4 : Int32) (x5 : Int32) (x6 : Int32) (x7 : Option Nat) (x8 : Int32) (h : HS), wb_X0_lotsTold_70 cl lm Q E J27 n x0 x1 x3 x4 x5 x6 x7 x8 h → GH X G h (hQ X G h0 Q E) 70 [(0, .ref x0), (1, .int x1), (3, .int x3), (4, .int x4), (5, .int x5), (6, .int x6), (7, va_rf x7), (8, .int x8)] [] := by
  have hlm := hCl.2.1
  have hd8 := hCl.2.2.1
  have hd2 : 1 ≤ d2 := Nat.le_trans (by decide) hd8
  have hLa := hCl.2.2.2
  have hd1 : 1 ≤ d2 + 1 := Nat.le_add_left _ _
  have hC9 := hCl
  replace hCl := hCl.1
  intro n
  induction n with
  | zero => intro x0 x1 x3 x4 x5 x6 x7 x8 h hw; exact hw.elim
  | succ n ih =>
  intro x0 x1 x3 x4 x5 x6 x7 x8 h hw
  unfold wb_X0_lotsTold_70 at hw
  refine gk_iload (pc := 70) C.1 7 dX0_lotsTold_70 rfl ?_
  refine gk_if_lt (pc := 72) (tgt := 100) C.1 dX0_lotsTold_72 (by decide) (fun c_1 => ?_) (fun c_1 => ?_)
  · replace hw := hw.1 c_1
    refine gk_iload (pc := 100) C.1 3 dX0_lotsTold_100 rfl ?_
    refine gk_qload (pc := 102) C.1 6 dX0_lotsTold_102 rfl ?_
    obtain ⟨a_2, rfl, hw⟩ := hw
    obtain ⟨ht, hw⟩ := hw
    refine gf_X0_221 (pc := 104) C ht dX0_lotsTold_104 (fun r_3 er_3 => ?_)
    replace hw := hw r_3 er_3
    obtain ⟨a_4, rfl, hw⟩ := hw
    obtain ⟨ht, hw⟩ := hw
    refine gf_X0_149 (pc := 107) C ht dX0_lotsTold_107 ?_
    refine gk_iadd (pc := 110) C.1 dX0_lotsTold_110 ?_
    obtain ⟨x_5, ex_5⟩ : ∃ z : Int32, z = x4 + (hI h 24 a_4) := ⟨_, rfl⟩
    rw [← ex_5]
    replace hw := hw x_5 ex_5
    refine gk_istore (pc := 111) (lv' := [(4, Value.int x_5), (0, Value.ref x0), (1, Value.int x1), (3, Value.int x3), (5, Value.int x5), (6, Value.int x6), (7, Value.ref a_2), (8, Value.int x8)]) C.1 dX0_lotsTold_111 (by rw [hXn]; decide) (by first | rfl | simp [va_rf_S, va_rf_cat, cat_i, cat_a, cat_l, cat_f, fin4_0, fin4_1, fin4_2, fin4_3]) ?_
    refine gk_iload (pc := 113) C.1 4 dX0_lotsTold_113 rfl ?_
    refine gk_aload (pc := 115) C.1 6 dX0_lotsTold_115 rfl ?_
    refine gc_X0_293 (pc := 117) (As := []) (rest := [.int x5]) C hCl (Nat.le_refl _) hw rfl rfl (Nat.le_of_ble_eq_true rfl) dX0_lotsTold_117 (fun v9 h_6 hp => ?_) (fun q_8 h_9 hw ht9 => ?_)
    rotate_left
    · exact gx_out C S0 (by rw [hTb]; decide) ht9 hw
    clear hw
    obtain ⟨r_7, rfl, hw⟩ := hp
    refine GK.at (p2 := 120) rfl ?_
    refine gk_if_eq (pc := 120) (tgt := 127) C.1 dX0_lotsTold_120 (by decide) (fun c_10 => ?_) (fun c_10 => ?_)
    · replace hw := hw.1 c_10
      refine gk_iconst (pc := 127) (v := 0) C.1 dX0_lotsTold_127 (by decide) ?_
      refine GK.sub (lv' := [(0, .ref x0), (1, .int x1), (3, .int x3), (4, .int x_5), (6, .int x6)]) [1, 2, 3, 0, 5] rfl ?_
      exact wk_X0_lotsTold_128 C hC9 S0 hret hXn hini hTb hJ27 _ _ _ _ _ _ _ _ hw
    · replace hw := hw.2 c_10
      refine gk_iconst (pc := 123) (v := 1) C.1 dX0_lotsTold_123 (by decide) ?_
      refine gk_goto (pc := 124) (tgt := 128) C.1 dX0_lotsTold_124 (by decide) ?_
      refine GK.sub (lv' := [(0, .ref x0), (1, .int x1), (3, .int x3), (4, .int x_5), (6, .int x6)]) [1, 2, 3, 0, 5] rfl ?_
      exact wk_X0_lotsTold_128 C hC9 S0 hret hXn hini hTb hJ27 _ _ _ _ _ _ _ _ hw
  · replace hw := hw.2 c_1
    refine gk_aload_n (pc := 75) C.1 0 dX0_lotsTold_75 rfl rfl ?_
    refine gk_aload_n (pc := 76) C.1 0 dX0_lotsTold_76 rfl rfl ?_
    obtain ⟨ht, hw⟩ := hw
    refine gf_X0_100 (pc := 77) C ht dX0_lotsTold_77 (fun r_11 er_11 => ?_)
    replace hw := hw r_11 er_11
    refine gk_iload (pc := 80) C.1 7 dX0_lotsTold_80 rfl ?_
    obtain ⟨a_12, rfl, hw⟩ := hw
    obtain ⟨ht, hi, hw⟩ := hw
    refine gh_iald (pc := 82) C ht hi dX0_lotsTold_82 ?_
    refine gk_aload_n (pc := 83) C.1 0 dX0_lotsTold_83 rfl rfl ?_
    obtain ⟨ht, hw⟩ := hw
    refine gf_X0_103 (pc := 84) C ht dX0_lotsTold_84 (fun r_13 er_13 => ?_)
    replace hw := hw r_13 er_13
    refine gk_iload (pc := 87) C.1 7 dX0_lotsTold_87 rfl ?_
    obtain ⟨a_14, rfl, hw⟩ := hw
    obtain ⟨ht, hi, hw⟩ := hw
    refine gh_aald (pc := 89) (t0 := 6) (E := "GathersAllFaults$Value") C ht (by decide) (by decide) rfl hi dX0_lotsTold_89 ?_
    obtain ⟨r_15, er_15⟩ : ∃ z : Option Nat, z = hB h a_14 x8.toNatClampNeg := ⟨_, rfl⟩
    rw [← er_15]
    replace hw := hw r_15 er_15
    refine gc_X0_218 (pc := 90) (As := [.int (hA h a_12 x8.toNatClampNeg), va_rf r_15]) (rest := []) C hCl (Nat.le_refl _) hw rfl rfl (Nat.le_of_ble_eq_true rfl) dX0_lotsTold_90 (fun v9 h_16 hp => ?_) (fun q_18 h_19 hw ht9 => ?_)
    rotate_left
    · exact gx_out C S0 (by rw [hTb]; decide) ht9 hw
    clear hw
    obtain ⟨r_17, rfl, hw⟩ := hp
    refine GK.at (p2 := 93) rfl ?_
    refine gk_pop (pc := 93) C.1 dX0_lotsTold_93 (va_rf_cat _) ?_
    obtain ⟨x_20, ex_20⟩ : ∃ z : Int32, z = x8 + (-1) := ⟨_, rfl⟩
    replace hw := hw x_20 ex_20
    refine gk_iinc (pc := 94) (v := x_20) (lv' := [(8, Value.int x_20), (0, Value.ref x0), (1, Value.int x1), (3, Value.int x3), (4, Value.int x4), (5, Value.int x5), (6, Value.int x6), (7, va_rf x7)]) C.1 7 dX0_lotsTold_94 rfl (by rw [ex_20]; rfl) (by rw [hXn]; decide) (by first | rfl | simp [va_rf_S, va_rf_cat, cat_i, cat_a, cat_l, cat_f, fin4_0, fin4_1, fin4_2, fin4_3]) ?_
    refine gk_goto (pc := 97) (tgt := 70) C.1 dX0_lotsTold_97 (by decide) ?_
    refine GK.sub (lv' := [(0, .ref x0), (1, .int x1), (3, .int x3), (4, .int x4), (5, .int x5), (6, .int x6), (7, va_rf x7), (8, .int x_20)]) [1, 2, 3, 4, 5, 6, 7, 0] rfl ?_
    exact ih _ _ _ _ _ _ _ _ _ hw
def wb_X0_lotsTold_36 (cl : CT) (lm : Nat × Nat) (Q : QT) (E : ET) (J27 : Nat → Int32 → Int32 → Int32 → Int32 → Int32 → HS → Prop) : Nat → Nat → Int32 → Int32 → Int32 → Int32 → Int32 → Int32 → HS → Prop
  | 0 => fun _ _ _ _ _ _ _ _ => False
  | n + 1 => fun x0 x1 x3 x4 x5 x6 x7 h => ((4 ≤ x7 → ((hT h x0 = 1) ∧ (∀ r_2 : Option Nat, r_2 = hR h 1 x0 → ((hT h x0 = 1) ∧ (∀ r_3 : Option Nat, r_3 = hR h 0 x0 → (∃ a_4 : Nat, r_2 = some a_4 ∧ (dp_Compiled_of cl a_4 [va_rf r_3] h (gR (fun r_6 h_5 => ∃ fu : Nat, wb_X0_lotsTold_70 cl lm Q E J27 fu x0 x1 x3 x4 x5 x6 r_6 3 h_5)) E))))))) ∧ (¬ 4 ≤ x7 → (dp_GathersAllFaults_hurt cl x0 [.int x7] h (gV (fun h_9 => ∀ x_12 : Int32, x_12 = x7 + 1 → (wb_X0_lotsTold_36 cl lm Q E J27 n x0 x1 x3 x4 x5 x6 x_12 h_9))) E)))
theorem wk_X0_lotsTold_36 {X : Ev} {G : GG} {cl : CT} {lm : Nat × Nat} {Q : QT} {E : ET} {h0 : HS} {d2 : Nat} {J27 : Nat → Int32 → Int32 → Int32 → Int32 → Int32 → HS → Prop} (C : HC X G RX0 cX0_lotsTold (d2 + 1)) (hCl : CallsOK (ev_l X) G d2 cl ∧ hLm G lm ∧ 8 ≤ d2 ∧ LamsOK (ev_l X) G d2 cl) (S0 : HS0 X h0) (hret : (ev_h X).sig.returnType = (Option.some Jvm.ClassFile.FieldType.int)) (hXn : ev_n X = 9) (hini : True) (hTb : (ev_c X).exceptionTable.toList = []) (hJ27 : ∀ (x0 : Nat) (x1 : Int32) (x3 : Int32) (x4 : Int32) (x5 : Int32) (x6 : Int32) (h : HS), J27 x0 x1 x3 x4 x5 x6 h → GH X G h (hQ X G h0 Q E) 27 [(0, .ref x0), (1, .int x1), (3, .int x3), (4, .int x4), (5, .int x5), (6, .int x6)] []) : ∀ (n : Nat) (x0 : Nat) (x1 : Int32) (x3 : Int32) (x4 : Int32) (x5 : Int32) (x6 : Int32) (x7 : Int32) (h : HS), wb_X0_lotsTold_36 cl lm Q E J27 n x0 x1 x3 x4 x5 x6 x7 h → GH X G h (hQ X G h0 Q E) 36 [(0, .ref x0), (1, .int x1), (3, .int x3), (4, .int x4), (5, .int x5), (6, .int x6), (7, .int x7)] [] := by
  have hlm := hCl.2.1
  have hd8 := hCl.2.2.1
  have hd2 : 1 ≤ d2 := Nat.le_trans (by decide) hd8
  have hLa := hCl.2.2.2
  have hd1 : 1 ≤ d2 + 1 := Nat.le_add_left _ _
  have hC9 := hCl
  replace hCl := hCl.1
  intro n
  induction n with
  | zero => intro x0 x1 x3 x4 x5 x6 x7 h hw; exact hw.elim
  | succ n ih =>
  intro x0 x1 x3 x4 x5 x6 x7 h hw
  unfold wb_X0_lotsTold_36 at hw
  refine gk_iload (pc := 36) C.1 6 dX0_lotsTold_36 rfl ?_
  refine gk_iconst (pc := 38) (v := 4) C.1 dX0_lotsTold_38 (by decide) ?_
  refine gk_icmp_ge (pc := 39) (tgt := 54) C.1 dX0_lotsTold_39 (by decide) (fun c_1 => ?_) (fun c_1 => ?_)
  · replace hw := hw.1 c_1
    refine gk_aload_n (pc := 54) C.1 0 dX0_lotsTold_54 rfl rfl ?_
    obtain ⟨ht, hw⟩ := hw
    refine gf_X0_73 (pc := 55) C ht dX0_lotsTold_55 (fun r_2 er_2 => ?_)
    replace hw := hw r_2 er_2
    refine gk_aload_n (pc := 58) C.1 0 dX0_lotsTold_58 rfl rfl ?_
    obtain ⟨ht, hw⟩ := hw
    refine gf_X0_66 (pc := 59) C ht dX0_lotsTold_59 (fun r_3 er_3 => ?_)
    replace hw := hw r_3 er_3
    obtain ⟨a_4, rfl, hw⟩ := hw
    refine gc_X0_192 (pc := 62) (As := [va_rf r_3]) (rest := []) C hCl (Nat.le_refl _) hw rfl rfl (Nat.le_of_ble_eq_true rfl) dX0_lotsTold_62 (fun v9 h_5 hp => ?_) (fun q_7 h_8 hw ht9 => ?_)
    rotate_left
    · exact gx_out C S0 (by rw [hTb]; decide) ht9 hw
    clear hw
    obtain ⟨r_6, rfl, hw⟩ := hp
    refine GK.at (p2 := 65) rfl ?_
    refine gk_qstore (pc := 65) (lv' := [(7, va_rf r_6), (0, Value.ref x0), (1, Value.int x1), (3, Value.int x3), (4, Value.int x4), (5, Value.int x5), (6, Value.int x6)]) C.1 dX0_lotsTold_65 (by rw [hXn]; decide) (by first | rfl | simp [va_rf_S, va_rf_cat, cat_i, cat_a, cat_l, cat_f, fin4_0, fin4_1, fin4_2, fin4_3]) ?_
    refine gk_iconst (pc := 67) (v := 3) C.1 dX0_lotsTold_67 (by decide) ?_
    refine gk_istore (pc := 68) (lv' := [(8, Value.int 3), (7, va_rf r_6), (0, Value.ref x0), (1, Value.int x1), (3, Value.int x3), (4, Value.int x4), (5, Value.int x5), (6, Value.int x6)]) C.1 dX0_lotsTold_68 (by rw [hXn]; decide) (by first | rfl | simp [va_rf_S, va_rf_cat, cat_i, cat_a, cat_l, cat_f, fin4_0, fin4_1, fin4_2, fin4_3]) ?_
    refine GK.sub (lv' := [(0, .ref x0), (1, .int x1), (3, .int x3), (4, .int x4), (5, .int x5), (6, .int x6), (7, va_rf r_6), (8, .int 3)]) [2, 3, 4, 5, 6, 7, 1, 0] rfl ?_
    obtain ⟨n9, hw⟩ := hw
    exact wk_X0_lotsTold_70 C hC9 S0 hret hXn hini hTb hJ27 n9 _ _ _ _ _ _ _ _ _ hw
  · replace hw := hw.2 c_1
    refine gk_aload_n (pc := 42) C.1 0 dX0_lotsTold_42 rfl rfl ?_
    refine gk_iload (pc := 43) C.1 6 dX0_lotsTold_43 rfl ?_
    refine gc_X0_331 (pc := 45) (As := [.int x7]) (rest := []) C hCl (Nat.le_refl _) hw rfl rfl (Nat.le_of_ble_eq_true rfl) dX0_lotsTold_45 (fun v9 h_9 hp => ?_) (fun q_10 h_11 hw ht9 => ?_)
    rotate_left
    · exact gx_out C S0 (by rw [hTb]; decide) ht9 hw
    clear hw
    obtain ⟨rfl, hw⟩ := hp
    refine GK.at (p2 := 48) rfl ?_
    obtain ⟨x_12, ex_12⟩ : ∃ z : Int32, z = x7 + 1 := ⟨_, rfl⟩
    replace hw := hw x_12 ex_12
    refine gk_iinc (pc := 48) (v := x_12) (lv' := [(7, Value.int x_12), (0, Value.ref x0), (1, Value.int x1), (3, Value.int x3), (4, Value.int x4), (5, Value.int x5), (6, Value.int x6)]) C.1 6 dX0_lotsTold_48 rfl (by rw [ex_12]; rfl) (by rw [hXn]; decide) (by first | rfl | simp [va_rf_S, va_rf_cat, cat_i, cat_a, cat_l, cat_f, fin4_0, fin4_1, fin4_2, fin4_3]) ?_
    refine gk_goto (pc := 51) (tgt := 36) C.1 dX0_lotsTold_51 (by decide) ?_
    refine GK.sub (lv' := [(0, .ref x0), (1, .int x1), (3, .int x3), (4, .int x4), (5, .int x5), (6, .int x6), (7, .int x_12)]) [1, 2, 3, 4, 5, 6, 0] rfl ?_
    exact ih _ _ _ _ _ _ _ _ hw
def wb_X0_lotsTold_27 (cl : CT) (lm : Nat × Nat) (Q : QT) (E : ET) : Nat → Nat → Int32 → Int32 → Int32 → Int32 → Int32 → HS → Prop
  | 0 => fun _ _ _ _ _ _ _ => False
  | n + 1 => fun x0 x1 x3 x4 x5 x6 h => ((x1 ≤ x6 → (((¬ x3 = 0 → (Q (some (.int x5)) h)) ∧ (x3 = 0 → (Q (some (.int x4)) h))))) ∧ (¬ x1 ≤ x6 → (∃ fu : Nat, wb_X0_lotsTold_36 cl lm Q E (fun yx0 yx1 yx3 yx4 yx5 yx6 yh => wb_X0_lotsTold_27 cl lm Q E n yx0 yx1 yx3 yx4 yx5 yx6 yh) fu x0 x1 x3 x4 x5 x6 0 h)))
theorem wk_X0_lotsTold_27 {X : Ev} {G : GG} {cl : CT} {lm : Nat × Nat} {Q : QT} {E : ET} {h0 : HS} {d2 : Nat} (C : HC X G RX0 cX0_lotsTold (d2 + 1)) (hCl : CallsOK (ev_l X) G d2 cl ∧ hLm G lm ∧ 8 ≤ d2 ∧ LamsOK (ev_l X) G d2 cl) (S0 : HS0 X h0) (hret : (ev_h X).sig.returnType = (Option.some Jvm.ClassFile.FieldType.int)) (hXn : ev_n X = 9) (hini : True) (hTb : (ev_c X).exceptionTable.toList = []) : ∀ (n : Nat) (x0 : Nat) (x1 : Int32) (x3 : Int32) (x4 : Int32) (x5 : Int32) (x6 : Int32) (h : HS), wb_X0_lotsTold_27 cl lm Q E n x0 x1 x3 x4 x5 x6 h → GH X G h (hQ X G h0 Q E) 27 [(0, .ref x0), (1, .int x1), (3, .int x3), (4, .int x4), (5, .int x5), (6, .int x6)] [] := by
  have hlm := hCl.2.1
  have hd8 := hCl.2.2.1
  have hd2 : 1 ≤ d2 := Nat.le_trans (by decide) hd8
  have hLa := hCl.2.2.2
  have hd1 : 1 ≤ d2 + 1 := Nat.le_add_left _ _
  have hC9 := hCl
  replace hCl := hCl.1
  intro n
  induction n with
  | zero => intro x0 x1 x3 x4 x5 x6 h hw; exact hw.elim
  | succ n ih =>
  intro x0 x1 x3 x4 x5 x6 h hw
  unfold wb_X0_lotsTold_27 at hw
  refine gk_iload (pc := 27) C.1 5 dX0_lotsTold_27 rfl ?_
  refine gk_iload_n (pc := 29) C.1 1 dX0_lotsTold_29 rfl rfl ?_
  refine gk_icmp_ge (pc := 30) (tgt := 137) C.1 dX0_lotsTold_30 (by decide) (fun c_1 => ?_) (fun c_1 => ?_)
  · replace hw := hw.1 c_1
    refine gk_iload_n (pc := 137) C.1 2 dX0_lotsTold_137 rfl rfl ?_
    refine gk_if_ne (pc := 138) (tgt := 146) C.1 dX0_lotsTold_138 (by decide) (fun c_2 => ?_) (fun c_2 => ?_)
    · replace hw := hw.1 c_2
      refine gk_iload (pc := 146) C.1 4 dX0_lotsTold_146 rfl ?_
      exact gh_iret (pc := 148) C S0 hret dX0_lotsTold_148 hw
    · replace hw := hw.2 c_2
      refine gk_iload (pc := 141) C.1 3 dX0_lotsTold_141 rfl ?_
      refine gk_goto (pc := 143) (tgt := 148) C.1 dX0_lotsTold_143 (by decide) ?_
      exact gh_iret (pc := 148) C S0 hret dX0_lotsTold_148 hw
  · replace hw := hw.2 c_1
    refine gk_iconst (pc := 33) (v := 0) C.1 dX0_lotsTold_33 (by decide) ?_
    refine gk_istore (pc := 34) (lv' := [(7, Value.int 0), (0, Value.ref x0), (1, Value.int x1), (3, Value.int x3), (4, Value.int x4), (5, Value.int x5), (6, Value.int x6)]) C.1 dX0_lotsTold_34 (by rw [hXn]; decide) (by first | rfl | simp [va_rf_S, va_rf_cat, cat_i, cat_a, cat_l, cat_f, fin4_0, fin4_1, fin4_2, fin4_3]) ?_
    refine GK.sub (lv' := [(0, .ref x0), (1, .int x1), (3, .int x3), (4, .int x4), (5, .int x5), (6, .int x6), (7, .int 0)]) [1, 2, 3, 4, 5, 6, 0] rfl ?_
    obtain ⟨n9, hw⟩ := hw
    exact wk_X0_lotsTold_36 C hC9 S0 hret hXn hini hTb ih n9 _ _ _ _ _ _ _ _ hw
def wb_X0_lotsTold (cl : CT) (lm : Nat × Nat) (Q : QT) (E : ET) (x0 : Nat) (x1 : Int32) (x2 : Int32) (x3 : Int32) (h : HS) : Prop := cl 141 [.long ((x1 : Int32).toInt64), .long 1, .long 20] h (gV (fun h_1 => cl 105 [.int x3] h_1 (gV (fun h_4 => (hT h_4 x0 = 1) ∧ (∀ h_7 : HS, h_7 = sI h_4 12 x0 x2 → (∃ fu : Nat, wb_X0_lotsTold_27 cl lm Q E fu x0 x1 x3 0 0 0 h_7)))) E)) E
theorem wx_X0_lotsTold {l : Launch} (hst : l.stackTraces = false) {G : GG} {cl : CT} {lm : Nat × Nat} {Q : QT} {E : ET} {d2 : Nat} (hCl : CallsOK l G d2 cl ∧ hLm G lm ∧ 8 ≤ d2 ∧ LamsOK l G d2 cl) {x0 : Nat} {x1 : Int32} {x2 : Int32} {x3 : Int32} {h : HS} (hw : wb_X0_lotsTold cl lm Q E x0 x1 x2 x3 h) : HMet l G yX0_lotsTold (ws_ yX0_lotsTold cX0_lotsTold 9 ((Option.some Jvm.ClassFile.FieldType.int))) (d2 + 1) [.ref x0, .int x1, .int x2, .int x3] h Q E := by
  refine gh_met (own := RX0) rfl (by decide +kernel) hst (by simp only [lg_sl_i, lg_sl_r, lg_sl_a, lg_sl_2, lg_sl_f, lg_sl_0]; decide) (fun X hXl hXn hret hnm hTb h0 eh C S0 => ?_)
  subst hXl
  have hlm := hCl.2.1
  have hd8 := hCl.2.2.1
  have hd2 : 1 ≤ d2 := Nat.le_trans (by decide) hd8
  have hLa := hCl.2.2.2
  have hd1 : 1 ≤ d2 + 1 := Nat.le_add_left _ _
  have hC9 := hCl
  replace hCl := hCl.1
  have hini : True := trivial
  unfold wb_X0_lotsTold at hw
  refine GK.sub (lv' := [(0, .ref x0), (1, .int x1), (2, .int x2), (3, .int x3)]) [0, 1, 2, 3] (by simp only [lv_args_i, lv_args_r, lv_args_a, lv_args_l, lv_args_f, lv_args_0]; rfl) ?_
  refine gk_iload_n (pc := 0) C.1 1 dX0_lotsTold_0 rfl rfl ?_
  refine gk_i2l (pc := 1) C.1 dX0_lotsTold_1 ?_
  refine gk_lconst (pc := 2) (v := 1) C.1 dX0_lotsTold_2 (by decide) ?_
  refine gk_ldc2 (pc := 3) (v := 20) C.1 q1904 dX0_lotsTold_3 ?_
  refine gc_X0_184 (pc := 6) (As := [.long ((x1 : Int32).toInt64), .long 1, .long 20]) (rest := []) C hCl (Nat.le_refl _) hw rfl rfl (Nat.le_of_ble_eq_true rfl) dX0_lotsTold_6 (fun v9 h_1 hp => ?_) (fun q_2 h_3 hw ht9 => ?_)
  rotate_left
  · exact gx_out C S0 (by rw [hTb]; decide) ht9 hw
  clear hw
  obtain ⟨rfl, hw⟩ := hp
  refine GK.at (p2 := 9) rfl ?_
  refine gk_iload_n (pc := 9) C.1 3 dX0_lotsTold_9 rfl rfl ?_
  refine gc_X0_226 (pc := 10) (As := [.int x3]) (rest := []) C hCl (Nat.le_refl _) hw rfl rfl (Nat.le_of_ble_eq_true rfl) dX0_lotsTold_10 (fun v9 h_4 hp => ?_) (fun q_5 h_6 hw ht9 => ?_)
  rotate_left
  · exact gx_out C S0 (by rw [hTb]; decide) ht9 hw
  clear hw
  obtain ⟨rfl, hw⟩ := hp
  refine GK.at (p2 := 13) rfl ?_
  refine gk_aload_n (pc := 13) C.1 0 dX0_lotsTold_13 rfl rfl ?_
  refine gk_iload_n (pc := 14) C.1 2 dX0_lotsTold_14 rfl rfl ?_
  obtain ⟨ht, hw⟩ := hw
  refine gfp_X0_308 (pc := 15) C ht dX0_lotsTold_15 (fun h_7 eh_7 => ?_)
  replace hw := hw h_7 eh_7
  refine gk_iconst (pc := 18) (v := 0) C.1 dX0_lotsTold_18 (by decide) ?_
  refine gk_istore (pc := 19) (lv' := [(4, Value.int 0), (0, Value.ref x0), (1, Value.int x1), (2, Value.int x2), (3, Value.int x3)]) C.1 dX0_lotsTold_19 (by rw [hXn]; decide) (by first | rfl | simp [va_rf_S, va_rf_cat, cat_i, cat_a, cat_l, cat_f, fin4_0, fin4_1, fin4_2, fin4_3]) ?_
  refine gk_iconst (pc := 21) (v := 0) C.1 dX0_lotsTold_21 (by decide) ?_
  refine gk_istore (pc := 22) (lv' := [(5, Value.int 0), (4, Value.int 0), (0, Value.ref x0), (1, Value.int x1), (2, Value.int x2), (3, Value.int x3)]) C.1 dX0_lotsTold_22 (by rw [hXn]; decide) (by first | rfl | simp [va_rf_S, va_rf_cat, cat_i, cat_a, cat_l, cat_f, fin4_0, fin4_1, fin4_2, fin4_3]) ?_
  refine gk_iconst (pc := 24) (v := 0) C.1 dX0_lotsTold_24 (by decide) ?_
  refine gk_istore (pc := 25) (lv' := [(6, Value.int 0), (5, Value.int 0), (4, Value.int 0), (0, Value.ref x0), (1, Value.int x1), (2, Value.int x2), (3, Value.int x3)]) C.1 dX0_lotsTold_25 (by rw [hXn]; decide) (by first | rfl | simp [va_rf_S, va_rf_cat, cat_i, cat_a, cat_l, cat_f, fin4_0, fin4_1, fin4_2, fin4_3]) ?_
  refine GK.sub (lv' := [(0, .ref x0), (1, .int x1), (3, .int x3), (4, .int 0), (5, .int 0), (6, .int 0)]) [3, 4, 6, 2, 1, 0] rfl ?_
  obtain ⟨n9, hw⟩ := hw
  exact wk_X0_lotsTold_27 C hC9 S0 hret hXn hini hTb  n9 _ _ _ _ _ _ _ hw
