set_option maxRecDepth 100000
/-! 200: GathersAllFaults$Fault.number()I -/
def wb_X10_number (cl : CT) (lm : Nat × Nat) (Q : QT) (E : ET) (x0 : Nat) (h : HS) : Prop := (hT h x0 = 17) ∧ (Q (some (.int (hI h 56 x0))) h)
theorem wx_X10_number {l : Launch} (hst : l.stackTraces = false) {G : GG} {cl : CT} {lm : Nat × Nat} {Q : QT} {E : ET} {d2 : Nat} (hCl : CallsOK l G d2 cl ∧ hLm G lm ∧ 8 ≤ d2 ∧ LamsOK l G d2 cl) {x0 : Nat} {h : HS} (hw : wb_X10_number cl lm Q E x0 h) : HMet l G yX10_number (ws_ yX10_number cX10_number 1 ((Option.some Jvm.ClassFile.FieldType.int))) (d2 + 1) [.ref x0] h Q E := by
  refine gh_met (own := RX10) rfl (by decide +kernel) hst (by simp only [lg_sl_i, lg_sl_r, lg_sl_a, lg_sl_2, lg_sl_f, lg_sl_0]; decide) (fun X hXl hXn hret hnm hTb h0 eh C S0 => ?_)
  subst hXl
  have hlm := hCl.2.1
  have hd8 := hCl.2.2.1
  have hd2 : 1 ≤ d2 := Nat.le_trans (by decide) hd8
  have hLa := hCl.2.2.2
  have hd1 : 1 ≤ d2 + 1 := Nat.le_add_left _ _
  have hC9 := hCl
  replace hCl := hCl.1
  have hini : True := trivial
  unfold wb_X10_number at hw
  refine GK.sub (lv' := [(0, .ref x0)]) [0] (by simp only [lv_args_i, lv_args_r, lv_args_a, lv_args_l, lv_args_f, lv_args_0]; rfl) ?_
  refine gk_aload_n (pc := 0) C.1 0 dX10_number_0 rfl rfl ?_
  obtain ⟨ht, hw⟩ := hw
  refine gf_X10_7 (pc := 1) C ht dX10_number_1 ?_
  exact gh_iret (pc := 4) C S0 hret dX10_number_4 hw
/-! 201: GathersAllFaults$Rec.equals(Ljava/lang/Object;)Z -/
def wb_X11_equals_37 (cl : CT) (lm : Nat × Nat) (Q : QT) (E : ET) : Nat → Nat → Option Nat → Option Nat → Int32 → Int32 → HS → Prop
  | 0 => fun _ _ _ _ _ _ => False
  | n + 1 => fun x0 x2 x3 x4 x5 h => ((x4 ≤ x5 → (Q (some (.int 1)) h)) ∧ (¬ x4 ≤ x5 → (∃ a_2 : Nat, x3 = some a_2 ∧ (hT h a_2 = 101 ∧ (vp_in x5 (hN h a_2) ∧ (∀ x_3 : Int32, x_3 = hA h a_2 x5.toNatClampNeg → ((hT h x0 = 4) ∧ (∀ r_4 : Option Nat, r_4 = hR h 18 x0 → (¬ x_3 < (-128) ∧ (¬ 127 < x_3 ∧ (∀ a_5 : Nat, hT h a_5 = 300 → hI h fINT a_5 = x_3 → (∃ a_6 : Nat, r_4 = some a_6 ∧ (dp_LinkedHashMap_get cl a_6 [.ref a_5] h (gR (fun r_8 h_7 => ck_GathersAllFaults_Value h_7 r_8 ∧ (∃ a_11 : Nat, x2 = some a_11 ∧ (dp_Rec_step cl a_11 [.int x_3] h_7 (gR (fun r_13 h_12 => ∃ a_16 : Nat, r_8 = some a_16 ∧ (dp_Value_equals cl a_16 [va_rf r_13] h_12 (gI (fun r_18 h_17 => ((¬ r_18 = 0 → (∀ x_22 : Int32, x_22 = x5 + 1 → (wb_X11_equals_37 cl lm Q E n x0 (some a_11) (some a_2) x4 x_22 h_17))) ∧ (r_18 = 0 → (Q (some (.int 0)) h_17))))) E))) E)))) E)))))))))))))
theorem wk_X11_equals_37 {X : Ev} {G : GG} {cl : CT} {lm : Nat × Nat} {Q : QT} {E : ET} {h0 : HS} {d2 : Nat} (C : HC X G RX11 cX11_equals (d2 + 1)) (hCl : CallsOK (ev_l X) G d2 cl ∧ hLm G lm ∧ 8 ≤ d2 ∧ LamsOK (ev_l X) G d2 cl) (S0 : HS0 X h0) (hret : (ev_h X).sig.returnType = (Option.some Jvm.ClassFile.FieldType.boolean)) (hXn : ev_n X = 7) (hini : True) (hTb : (ev_c X).exceptionTable.toList = []) : ∀ (n : Nat) (x0 : Nat) (x2 : Option Nat) (x3 : Option Nat) (x4 : Int32) (x5 : Int32) (h : HS), wb_X11_equals_37 cl lm Q E n x0 x2 x3 x4 x5 h → GH X G h (hQ X G h0 Q E) 37 [(0, .ref x0), (2, va_rf x2), (3, va_rf x3), (4, .int x4), (5, .int x5)] [] := by
  have hlm := hCl.2.1
  have hd8 := hCl.2.2.1
  have hd2 : 1 ≤ d2 := Nat.le_trans (by decide) hd8
  have hLa := hCl.2.2.2
  have hd1 : 1 ≤ d2 + 1 := Nat.le_add_left _ _
  have hC9 := hCl
  replace hCl := hCl.1
  intro n
  induction n with
  | zero => intro x0 x2 x3 x4 x5 h hw; exact hw.elim
  | succ n ih =>
  intro x0 x2 x3 x4 x5 h hw
  unfold wb_X11_equals_37 at hw
  refine gk_iload (pc := 37) C.1 4 dX11_equals_37 rfl ?_
  refine gk_iload (pc := 39) C.1 3 dX11_equals_39 rfl ?_
  refine gk_icmp_ge (pc := 41) (tgt := 85) C.1 dX11_equals_41 (by decide) (fun c_1 => ?_) (fun c_1 => ?_)
  · replace hw := hw.1 c_1
    refine gk_iconst (pc := 85) (v := 1) C.1 dX11_equals_85 (by decide) ?_
    exact gh_zret (pc := 86) C S0 hret dX11_equals_86 bz1 hw
  · replace hw := hw.2 c_1
    refine gk_qload_n (pc := 44) C.1 2 dX11_equals_44 rfl rfl ?_
    refine gk_iload (pc := 45) C.1 4 dX11_equals_45 rfl ?_
    obtain ⟨a_2, rfl, hw⟩ := hw
    obtain ⟨ht, hi, hw⟩ := hw
    refine gh_iald (pc := 47) C ht hi dX11_equals_47 ?_
    obtain ⟨x_3, ex_3⟩ : ∃ z : Int32, z = hA h a_2 x5.toNatClampNeg := ⟨_, rfl⟩
    rw [← ex_3]
    replace hw := hw x_3 ex_3
    refine gk_istore (pc := 48) (lv' := [(6, Value.int x_3), (0, Value.ref x0), (2, va_rf x2), (3, Value.ref a_2), (4, Value.int x4), (5, Value.int x5)]) C.1 dX11_equals_48 (by rw [hXn]; decide) (by first | rfl | simp [va_rf_S, va_rf_cat, cat_i, cat_a, cat_l, cat_f, fin4_0, fin4_1, fin4_2, fin4_3]) ?_
    refine gk_aload_n (pc := 50) C.1 1 dX11_equals_50 rfl rfl ?_
    obtain ⟨ht, hw⟩ := hw
    refine gf_X11_7 (pc := 51) C ht dX11_equals_51 (fun r_4 er_4 => ?_)
    replace hw := hw r_4 er_4
    refine gk_iload (pc := 54) C.1 0 dX11_equals_54 rfl ?_
    obtain ⟨z1, z2, hw⟩ := hw
    refine gv_X11_48 (pc := 56) (rest := [va_rf r_4]) C hd2 z1 z2 (by simp [va_rf_S, va_rf_cat, cat_i, cat_a, cat_l, cat_f, fin4_0, fin4_1, fin4_2, fin4_3]) dX11_equals_56 (fun a_5 z3 z4 => ?_)
    replace hw := hw a_5 z3 z4
    obtain ⟨a_6, rfl, hw⟩ := hw
    refine gc_X11_52 (pc := 59) (As := [.ref a_5]) (rest := []) C hCl (Nat.le_refl _) hw rfl rfl (Nat.le_of_ble_eq_true rfl) dX11_equals_59 (fun v9 h_7 hp => ?_) (fun q_9 h_10 hw ht9 => ?_)
    rotate_left
    · exact gx_out C S0 (by rw [hTb]; decide) ht9 hw
    clear hw
    obtain ⟨r_8, rfl, hw⟩ := hp
    refine GK.at (p2 := 62) rfl ?_
    obtain ⟨hs, hw⟩ := hw
    refine gh_ckc (pc := 62) (r := r_8) C q643 (ck_GathersAllFaults_Value_ok hs) dX11_equals_62 ?_
    refine gk_qload_n (pc := 65) C.1 2 dX11_equals_65 rfl rfl ?_
    refine gk_iload (pc := 66) C.1 0 dX11_equals_66 rfl ?_
    obtain ⟨a_11, rfl, hw⟩ := hw
    refine gc_X11_75 (pc := 68) (As := [.int x_3]) (rest := [va_rf r_8]) C hCl (Nat.le_refl _) hw rfl rfl (by simp [va_rf_S, va_rf_cat, cat_i, cat_a, cat_l, cat_f, fin4_0, fin4_1, fin4_2, fin4_3]) dX11_equals_68 (fun v9 h_12 hp => ?_) (fun q_14 h_15 hw ht9 => ?_)
    rotate_left
    · exact gx_out C S0 (by rw [hTb]; decide) ht9 hw
    clear hw
    obtain ⟨r_13, rfl, hw⟩ := hp
    refine GK.at (p2 := 71) rfl ?_
    obtain ⟨a_16, rfl, hw⟩ := hw
    refine gc_X11_79 (pc := 71) (As := [va_rf r_13]) (rest := []) C hCl (Nat.le_refl _) hw rfl rfl (Nat.le_of_ble_eq_true rfl) dX11_equals_71 (fun v9 h_17 hp => ?_) (fun q_19 h_20 hw ht9 => ?_)
    rotate_left
    · exact gx_out C S0 (by rw [hTb]; decide) ht9 hw
    clear hw
    obtain ⟨r_18, rfl, hw⟩ := hp
    refine GK.at (p2 := 74) rfl ?_
    refine gk_if_ne (pc := 74) (tgt := 79) C.1 dX11_equals_74 (by decide) (fun c_21 => ?_) (fun c_21 => ?_)
    · replace hw := hw.1 c_21
      obtain ⟨x_22, ex_22⟩ : ∃ z : Int32, z = x5 + 1 := ⟨_, rfl⟩
      replace hw := hw x_22 ex_22
      refine gk_iinc (pc := 79) (v := x_22) (lv' := [(5, Value.int x_22), (6, Value.int x_3), (0, Value.ref x0), (2, Value.ref a_11), (3, Value.ref a_2), (4, Value.int x4)]) C.1 5 dX11_equals_79 rfl (by rw [ex_22]; rfl) (by rw [hXn]; decide) (by first | rfl | simp [va_rf_S, va_rf_cat, cat_i, cat_a, cat_l, cat_f, fin4_0, fin4_1, fin4_2, fin4_3]) ?_
      refine gk_goto (pc := 82) (tgt := 37) C.1 dX11_equals_82 (by decide) ?_
      refine GK.sub (lv' := [(0, .ref x0), (2, va_rf (some a_11)), (3, va_rf (some a_2)), (4, .int x4), (5, .int x_22)]) [2, 3, 4, 5, 0] rfl ?_
      exact ih _ _ _ _ _ _ hw
    · replace hw := hw.2 c_21
      refine gk_iconst (pc := 77) (v := 0) C.1 dX11_equals_77 (by decide) ?_
      exact gh_zret (pc := 78) C S0 hret dX11_equals_78 bz0 hw
def wb_X11_equals (cl : CT) (lm : Nat × Nat) (Q : QT) (E : ET) (x0 : Nat) (x1 : Option Nat) (h : HS) : Prop := (∃ a_1 : Nat, x1 = some a_1 ∧ ((hT h a_1 = 4) ∧ (ck_GathersAllFaults_Rec h (some a_1) ∧ (dp_Rec_many cl a_1 [] h (gI (fun r_3 h_2 => dp_Rec_many cl x0 [] h_2 (gI (fun r_7 h_6 => ((r_3 = r_7 → ((hT h_6 x0 = 4) ∧ (∀ r_11 : Option Nat, r_11 = hR h_6 19 x0 → (∃ a_12 : Nat, r_11 = some a_12 ∧ (hT h_6 a_12 = 101 ∧ (∀ x_13 : Int32, x_13 = nI (hN h_6 a_12) → (∃ fu : Nat, wb_X11_equals_37 cl lm Q E fu x0 (some a_1) (some a_12) x_13 0 h_6))))))) ∧ (¬ r_3 = r_7 → (Q (some (.int 0)) h_6))))) E)) E)))) ∨ ((∀ a_1 : Nat, x1 = some a_1 → (hT h a_1 = 2 ∨ hT h a_1 = 3 ∨ hT h a_1 = 5 ∨ hT h a_1 = 300)) ∧ (Q (some (.int 0)) h))
theorem wx_X11_equals {l : Launch} (hst : l.stackTraces = false) {G : GG} {cl : CT} {lm : Nat × Nat} {Q : QT} {E : ET} {d2 : Nat} (hCl : CallsOK l G d2 cl ∧ hLm G lm ∧ 8 ≤ d2 ∧ LamsOK l G d2 cl) {x0 : Nat} {x1 : Option Nat} {h : HS} (hw : wb_X11_equals cl lm Q E x0 x1 h) : HMet l G yX11_equals (ws_ yX11_equals cX11_equals 7 ((Option.some Jvm.ClassFile.FieldType.boolean))) (d2 + 1) [.ref x0, va_rf x1] h Q E := by
  refine gh_met (own := RX11) rfl (by decide +kernel) hst (by simp only [lg_sl_i, lg_sl_r, lg_sl_a, lg_sl_2, lg_sl_f, lg_sl_0]; decide) (fun X hXl hXn hret hnm hTb h0 eh C S0 => ?_)
  subst hXl
  have hlm := hCl.2.1
  have hd8 := hCl.2.2.1
  have hd2 : 1 ≤ d2 := Nat.le_trans (by decide) hd8
  have hLa := hCl.2.2.2
  have hd1 : 1 ≤ d2 + 1 := Nat.le_add_left _ _
  have hC9 := hCl
  replace hCl := hCl.1
  have hini : True := trivial
  unfold wb_X11_equals at hw
  refine GK.sub (lv' := [(0, .ref x0), (1, va_rf x1)]) [0, 1] (by simp only [lv_args_i, lv_args_r, lv_args_a, lv_args_l, lv_args_f, lv_args_0]; rfl) ?_
  refine gk_qload_n (pc := 0) C.1 1 dX11_equals_0 rfl rfl ?_
  rcases hw with ⟨a_1, rfl, hs, hw⟩ | ⟨hs, hw⟩
  · skip
    refine gi_X11_8_y (pc := 1) C hs dX11_equals_1 ?_
    refine gk_if_eq (pc := 4) (tgt := 23) C.1 dX11_equals_4 (by decide) (fun c9 => ?_) (fun c9 => ?_)
    · exact absurd c9 (by decide)
    refine gk_aload_n (pc := 7) C.1 1 dX11_equals_7 rfl rfl ?_
    obtain ⟨hs, hw⟩ := hw
    refine gh_ckc (pc := 8) (r := (some a_1)) C q694 (ck_GathersAllFaults_Rec_ok hs) dX11_equals_8 ?_
    refine gk_astore_n (pc := 11) (lv' := [(2, Value.ref a_1), (0, Value.ref x0), (1, Value.ref a_1)]) C.1 dX11_equals_11 rfl (by rw [hXn]; decide) (by first | rfl | simp [va_rf_S, va_rf_cat, cat_i, cat_a, cat_l, cat_f, fin4_0, fin4_1, fin4_2, fin4_3]) ?_
    refine gk_aload_n (pc := 12) C.1 0 dX11_equals_12 rfl rfl ?_
    refine gc_X11_72 (pc := 13) (As := []) (rest := []) C hCl (Nat.le_refl _) hw rfl rfl (Nat.le_of_ble_eq_true rfl) dX11_equals_13 (fun v9 h_2 hp => ?_) (fun q_4 h_5 hw ht9 => ?_)
    rotate_left
    · exact gx_out C S0 (by rw [hTb]; decide) ht9 hw
    clear hw
    obtain ⟨r_3, rfl, hw⟩ := hp
    refine GK.at (p2 := 16) rfl ?_
    refine gk_aload_n (pc := 16) C.1 1 dX11_equals_16 rfl rfl ?_
    refine gc_X11_72 (pc := 17) (As := []) (rest := [.int r_3]) C hCl (Nat.le_refl _) hw rfl rfl (Nat.le_of_ble_eq_true rfl) dX11_equals_17 (fun v9 h_6 hp => ?_) (fun q_8 h_9 hw ht9 => ?_)
    rotate_left
    · exact gx_out C S0 (by rw [hTb]; decide) ht9 hw
    clear hw
    obtain ⟨r_7, rfl, hw⟩ := hp
    refine GK.at (p2 := 20) rfl ?_
    refine gk_icmp_eq (pc := 20) (tgt := 25) C.1 dX11_equals_20 (by decide) (fun c_10 => ?_) (fun c_10 => ?_)
    · replace hw := hw.1 c_10
      refine gk_aload_n (pc := 25) C.1 1 dX11_equals_25 rfl rfl ?_
      obtain ⟨ht, hw⟩ := hw
      refine gf_X11_19 (pc := 26) C ht dX11_equals_26 (fun r_11 er_11 => ?_)
      replace hw := hw r_11 er_11
      refine gk_qstore_n (pc := 29) (lv' := [(3, va_rf r_11), (2, Value.ref a_1), (0, Value.ref x0), (1, Value.ref a_1)]) C.1 dX11_equals_29 rfl (by rw [hXn]; decide) (by first | rfl | simp [va_rf_S, va_rf_cat, cat_i, cat_a, cat_l, cat_f, fin4_0, fin4_1, fin4_2, fin4_3]) ?_
      refine gk_qload_n (pc := 30) C.1 0 dX11_equals_30 rfl rfl ?_
      obtain ⟨a_12, rfl, hw⟩ := hw
      obtain ⟨ht, hw⟩ := hw
      refine gh_len (pc := 31) (t0 := 0) (ty := tyA 101) C ht (by decide) rfl dX11_equals_31 ?_
      obtain ⟨x_13, ex_13⟩ : ∃ z : Int32, z = nI (hN h_6 a_12) := ⟨_, rfl⟩
      rw [← ex_13]
      replace hw := hw x_13 ex_13
      refine gk_istore (pc := 32) (lv' := [(4, Value.int x_13), (3, Value.ref a_12), (2, Value.ref a_1), (0, Value.ref x0), (1, Value.ref a_1)]) C.1 dX11_equals_32 (by rw [hXn]; decide) (by first | rfl | simp [va_rf_S, va_rf_cat, cat_i, cat_a, cat_l, cat_f, fin4_0, fin4_1, fin4_2, fin4_3]) ?_
      refine gk_iconst (pc := 34) (v := 0) C.1 dX11_equals_34 (by decide) ?_
      refine gk_istore (pc := 35) (lv' := [(5, Value.int 0), (4, Value.int x_13), (3, Value.ref a_12), (2, Value.ref a_1), (0, Value.ref x0), (1, Value.ref a_1)]) C.1 dX11_equals_35 (by rw [hXn]; decide) (by first | rfl | simp [va_rf_S, va_rf_cat, cat_i, cat_a, cat_l, cat_f, fin4_0, fin4_1, fin4_2, fin4_3]) ?_
      refine GK.sub (lv' := [(0, .ref x0), (2, va_rf (some a_1)), (3, va_rf (some a_12)), (4, .int x_13), (5, .int 0)]) [4, 3, 2, 1, 0] rfl ?_
      obtain ⟨n9, hw⟩ := hw
      exact wk_X11_equals_37 C hC9 S0 hret hXn hini hTb  n9 _ _ _ _ _ _ hw
    · replace hw := hw.2 c_10
      refine gk_iconst (pc := 23) (v := 0) C.1 dX11_equals_23 (by decide) ?_
      exact gh_zret (pc := 24) C S0 hret dX11_equals_24 bz0 hw
  · refine gi_X11_8_n (pc := 1) (r := x1) C hs dX11_equals_1 ?_
    refine gk_if_eq (pc := 4) (tgt := 23) C.1 dX11_equals_4 (by decide) (fun c9 => ?_) (fun c9 => ?_)
    rotate_left
    · exact absurd rfl c9
    refine gk_iconst (pc := 23) (v := 0) C.1 dX11_equals_23 (by decide) ?_
    exact gh_zret (pc := 24) C S0 hret dX11_equals_24 bz0 hw
/-! 202: GathersAllFaults$Rec.hashCode()I -/
def wb_X11_hashCode_14 (cl : CT) (lm : Nat × Nat) (Q : QT) (E : ET) : Nat → Nat → Int32 → Option Nat → Int32 → Int32 → HS → Prop
  | 0 => fun _ _ _ _ _ _ => False
  | n + 1 => fun x0 x1 x2 x3 x4 h => ((x3 ≤ x4 → (Q (some (.int x1)) h)) ∧ (¬ x3 ≤ x4 → (∃ a_2 : Nat, x2 = some a_2 ∧ (hT h a_2 = 101 ∧ (vp_in x4 (hN h a_2) ∧ (∀ x_3 : Int32, x_3 = hA h a_2 x4.toNatClampNeg → ((hT h x0 = 4) ∧ (∀ r_4 : Option Nat, r_4 = hR h 18 x0 → (¬ x_3 < (-128) ∧ (¬ 127 < x_3 ∧ (∀ a_5 : Nat, hT h a_5 = 300 → hI h fINT a_5 = x_3 → (∃ a_6 : Nat, r_4 = some a_6 ∧ (dp_LinkedHashMap_get cl a_6 [.ref a_5] h (gR (fun r_8 h_7 => ck_GathersAllFaults_Value h_7 r_8 ∧ (∃ a_11 : Nat, r_8 = some a_11 ∧ (dp_Value_hashCode cl a_11 [] h_7 (gI (fun r_13 h_12 => ∀ x_16 : Int32, x_16 = x1 + (((2 * x_3) + 1) * (r_13 + 13)) → (∀ x_17 : Int32, x_17 = x4 + 1 → (wb_X11_hashCode_14 cl lm Q E n x0 x_16 (some a_2) x3 x_17 h_12)))) E)))) E)))))))))))))
theorem wk_X11_hashCode_14 {X : Ev} {G : GG} {cl : CT} {lm : Nat × Nat} {Q : QT} {E : ET} {h0 : HS} {d2 : Nat} (C : HC X G RX11 cX11_hashCode (d2 + 1)) (hCl : CallsOK (ev_l X) G d2 cl ∧ hLm G lm ∧ 8 ≤ d2 ∧ LamsOK (ev_l X) G d2 cl) (S0 : HS0 X h0) (hret : (ev_h X).sig.returnType = (Option.some Jvm.ClassFile.FieldType.int)) (hXn : ev_n X = 6) (hini : True) (hTb : (ev_c X).exceptionTable.toList = []) : ∀ (n : Nat) (x0 : Nat) (x1 : Int32) (x2 : Option Nat) (x3 : Int32) (x4 : Int32) (h : HS), wb_X11_hashCode_14 cl lm Q E n x0 x1 x2 x3 x4 h → GH X G h (hQ X G h0 Q E) 14 [(0, .ref x0), (1, .int x1), (2, va_rf x2), (3, .int x3), (4, .int x4)] [] := by
  have hlm := hCl.2.1
  have hd8 := hCl.2.2.1
  have hd2 : 1 ≤ d2 := Nat.le_trans (by decide) hd8
  have hLa := hCl.2.2.2
  have hd1 : 1 ≤ d2 + 1 := Nat.le_add_left _ _
  have hC9 := hCl
  replace hCl := hCl.1
  intro n
  induction n with
  | zero => intro x0 x1 x2 x3 x4 h hw; exact hw.elim
  | succ n ih =>
  intro x0 x1 x2 x3 x4 h hw
  unfold wb_X11_hashCode_14 at hw
  refine gk_iload (pc := 14) C.1 4 dX11_hashCode_14 rfl ?_
  refine gk_iload_n (pc := 16) C.1 3 dX11_hashCode_16 rfl rfl ?_
  refine gk_icmp_ge (pc := 17) (tgt := 63) C.1 dX11_hashCode_17 (by decide) (fun c_1 => ?_) (fun c_1 => ?_)
  · replace hw := hw.1 c_1
    refine gk_iload_n (pc := 63) C.1 1 dX11_hashCode_63 rfl rfl ?_
    exact gh_iret (pc := 64) C S0 hret dX11_hashCode_64 hw
  · replace hw := hw.2 c_1
    refine gk_qload_n (pc := 20) C.1 2 dX11_hashCode_20 rfl rfl ?_
    refine gk_iload (pc := 21) C.1 4 dX11_hashCode_21 rfl ?_
    obtain ⟨a_2, rfl, hw⟩ := hw
    obtain ⟨ht, hi, hw⟩ := hw
    refine gh_iald (pc := 23) C ht hi dX11_hashCode_23 ?_
    obtain ⟨x_3, ex_3⟩ : ∃ z : Int32, z = hA h a_2 x4.toNatClampNeg := ⟨_, rfl⟩
    rw [← ex_3]
    replace hw := hw x_3 ex_3
    refine gk_istore (pc := 24) (lv' := [(5, Value.int x_3), (0, Value.ref x0), (1, Value.int x1), (2, Value.ref a_2), (3, Value.int x3), (4, Value.int x4)]) C.1 dX11_hashCode_24 (by rw [hXn]; decide) (by first | rfl | simp [va_rf_S, va_rf_cat, cat_i, cat_a, cat_l, cat_f, fin4_0, fin4_1, fin4_2, fin4_3]) ?_
    refine gk_iload_n (pc := 26) C.1 2 dX11_hashCode_26 rfl rfl ?_
    refine gk_iconst (pc := 27) (v := 2) C.1 dX11_hashCode_27 (by decide) ?_
    refine gk_iload (pc := 28) C.1 0 dX11_hashCode_28 rfl ?_
    refine gk_imul (pc := 30) C.1 dX11_hashCode_30 ?_
    refine gk_iconst (pc := 31) (v := 1) C.1 dX11_hashCode_31 (by decide) ?_
    refine gk_iadd (pc := 32) C.1 dX11_hashCode_32 ?_
    refine gk_aload_n (pc := 33) C.1 1 dX11_hashCode_33 rfl rfl ?_
    obtain ⟨ht, hw⟩ := hw
    refine gf_X11_7 (pc := 34) C ht dX11_hashCode_34 (fun r_4 er_4 => ?_)
    replace hw := hw r_4 er_4
    refine gk_iload (pc := 37) C.1 0 dX11_hashCode_37 rfl ?_
    obtain ⟨z1, z2, hw⟩ := hw
    refine gv_X11_48 (pc := 39) (rest := [va_rf r_4, .int ((2 * x_3) + 1), .int x1]) C hd2 z1 z2 (by simp [va_rf_S, va_rf_cat, cat_i, cat_a, cat_l, cat_f, fin4_0, fin4_1, fin4_2, fin4_3]) dX11_hashCode_39 (fun a_5 z3 z4 => ?_)
    replace hw := hw a_5 z3 z4
    obtain ⟨a_6, rfl, hw⟩ := hw
    refine gc_X11_52 (pc := 42) (As := [.ref a_5]) (rest := [.int ((2 * x_3) + 1), .int x1]) C hCl (Nat.le_refl _) hw rfl rfl (Nat.le_of_ble_eq_true rfl) dX11_hashCode_42 (fun v9 h_7 hp => ?_) (fun q_9 h_10 hw ht9 => ?_)
    rotate_left
    · exact gx_out C S0 (by rw [hTb]; decide) ht9 hw
    clear hw
    obtain ⟨r_8, rfl, hw⟩ := hp
    refine GK.at (p2 := 45) rfl ?_
    obtain ⟨hs, hw⟩ := hw
    refine gh_ckc (pc := 45) (r := r_8) C q643 (ck_GathersAllFaults_Value_ok hs) dX11_hashCode_45 ?_
    obtain ⟨a_11, rfl, hw⟩ := hw
    refine gc_X11_83 (pc := 48) (As := []) (rest := [.int ((2 * x_3) + 1), .int x1]) C hCl (Nat.le_refl _) hw rfl rfl (Nat.le_of_ble_eq_true rfl) dX11_hashCode_48 (fun v9 h_12 hp => ?_) (fun q_14 h_15 hw ht9 => ?_)
    rotate_left
    · exact gx_out C S0 (by rw [hTb]; decide) ht9 hw
    clear hw
    obtain ⟨r_13, rfl, hw⟩ := hp
    refine GK.at (p2 := 51) rfl ?_
    refine gk_bipush (pc := 51) (v := 13) C.1 dX11_hashCode_51 (by decide) ?_
    refine gk_iadd (pc := 53) C.1 dX11_hashCode_53 ?_
    refine gk_imul (pc := 54) C.1 dX11_hashCode_54 ?_
    refine gk_iadd (pc := 55) C.1 dX11_hashCode_55 ?_
    obtain ⟨x_16, ex_16⟩ : ∃ z : Int32, z = x1 + (((2 * x_3) + 1) * (r_13 + 13)) := ⟨_, rfl⟩
    rw [← ex_16]
    replace hw := hw x_16 ex_16
    refine gk_istore_n (pc := 56) (lv' := [(1, Value.int x_16), (5, Value.int x_3), (0, Value.ref x0), (2, Value.ref a_2), (3, Value.int x3), (4, Value.int x4)]) C.1 dX11_hashCode_56 rfl (by rw [hXn]; decide) (by first | rfl | simp [va_rf_S, va_rf_cat, cat_i, cat_a, cat_l, cat_f, fin4_0, fin4_1, fin4_2, fin4_3]) ?_
    obtain ⟨x_17, ex_17⟩ : ∃ z : Int32, z = x4 + 1 := ⟨_, rfl⟩
    replace hw := hw x_17 ex_17
    refine gk_iinc (pc := 57) (v := x_17) (lv' := [(4, Value.int x_17), (1, Value.int x_16), (5, Value.int x_3), (0, Value.ref x0), (2, Value.ref a_2), (3, Value.int x3)]) C.1 5 dX11_hashCode_57 rfl (by rw [ex_17]; rfl) (by rw [hXn]; decide) (by first | rfl | simp [va_rf_S, va_rf_cat, cat_i, cat_a, cat_l, cat_f, fin4_0, fin4_1, fin4_2, fin4_3]) ?_
    refine gk_goto (pc := 60) (tgt := 14) C.1 dX11_hashCode_60 (by decide) ?_
    refine GK.sub (lv' := [(0, .ref x0), (1, .int x_16), (2, va_rf (some a_2)), (3, .int x3), (4, .int x_17)]) [3, 1, 4, 5, 0] rfl ?_
    exact ih _ _ _ _ _ _ hw
def wb_X11_hashCode (cl : CT) (lm : Nat × Nat) (Q : QT) (E : ET) (x0 : Nat) (h : HS) : Prop := (hT h x0 = 4) ∧ (∀ r_1 : Option Nat, r_1 = hR h 19 x0 → (∃ a_2 : Nat, r_1 = some a_2 ∧ (hT h a_2 = 101 ∧ (∀ x_3 : Int32, x_3 = nI (hN h a_2) → (∃ fu : Nat, wb_X11_hashCode_14 cl lm Q E fu x0 101 (some a_2) x_3 0 h)))))
theorem wx_X11_hashCode {l : Launch} (hst : l.stackTraces = false) {G : GG} {cl : CT} {lm : Nat × Nat} {Q : QT} {E : ET} {d2 : Nat} (hCl : CallsOK l G d2 cl ∧ hLm G lm ∧ 8 ≤ d2 ∧ LamsOK l G d2 cl) {x0 : Nat} {h : HS} (hw : wb_X11_hashCode cl lm Q E x0 h) : HMet l G yX11_hashCode (ws_ yX11_hashCode cX11_hashCode 6 ((Option.some Jvm.ClassFile.FieldType.int))) (d2 + 1) [.ref x0] h Q E := by
  refine gh_met (own := RX11) rfl (by decide +kernel) hst (by simp only [lg_sl_i, lg_sl_r, lg_sl_a, lg_sl_2, lg_sl_f, lg_sl_0]; decide) (fun X hXl hXn hret hnm hTb h0 eh C S0 => ?_)
  subst hXl
  have hlm := hCl.2.1
  have hd8 := hCl.2.2.1
  have hd2 : 1 ≤ d2 := Nat.le_trans (by decide) hd8
  have hLa := hCl.2.2.2
  have hd1 : 1 ≤ d2 + 1 := Nat.le_add_left _ _
  have hC9 := hCl
  replace hCl := hCl.1
  have hini : True := trivial
  unfold wb_X11_hashCode at hw
  refine GK.sub (lv' := [(0, .ref x0)]) [0] (by simp only [lv_args_i, lv_args_r, lv_args_a, lv_args_l, lv_args_f, lv_args_0]; rfl) ?_
  refine gk_bipush (pc := 0) (v := 101) C.1 dX11_hashCode_0 (by decide) ?_
  refine gk_istore_n (pc := 2) (lv' := [(1, Value.int 101), (0, Value.ref x0)]) C.1 dX11_hashCode_2 rfl (by rw [hXn]; decide) (by first | rfl | simp [va_rf_S, va_rf_cat, cat_i, cat_a, cat_l, cat_f, fin4_0, fin4_1, fin4_2, fin4_3]) ?_
  refine gk_aload_n (pc := 3) C.1 1 dX11_hashCode_3 rfl rfl ?_
  obtain ⟨ht, hw⟩ := hw
  refine gf_X11_19 (pc := 4) C ht dX11_hashCode_4 (fun r_1 er_1 => ?_)
  replace hw := hw r_1 er_1
  refine gk_qstore_n (pc := 7) (lv' := [(2, va_rf r_1), (1, Value.int 101), (0, Value.ref x0)]) C.1 dX11_hashCode_7 rfl (by rw [hXn]; decide) (by first | rfl | simp [va_rf_S, va_rf_cat, cat_i, cat_a, cat_l, cat_f, fin4_0, fin4_1, fin4_2, fin4_3]) ?_
  refine gk_qload_n (pc := 8) C.1 0 dX11_hashCode_8 rfl rfl ?_
  obtain ⟨a_2, rfl, hw⟩ := hw
  obtain ⟨ht, hw⟩ := hw
  refine gh_len (pc := 9) (t0 := 0) (ty := tyA 101) C ht (by decide) rfl dX11_hashCode_9 ?_
  obtain ⟨x_3, ex_3⟩ : ∃ z : Int32, z = nI (hN h a_2) := ⟨_, rfl⟩
  rw [← ex_3]
  replace hw := hw x_3 ex_3
  refine gk_istore_n (pc := 10) (lv' := [(3, Value.int x_3), (2, Value.ref a_2), (1, Value.int 101), (0, Value.ref x0)]) C.1 dX11_hashCode_10 rfl (by rw [hXn]; decide) (by first | rfl | simp [va_rf_S, va_rf_cat, cat_i, cat_a, cat_l, cat_f, fin4_0, fin4_1, fin4_2, fin4_3]) ?_
  refine gk_iconst (pc := 11) (v := 0) C.1 dX11_hashCode_11 (by decide) ?_
  refine gk_istore (pc := 12) (lv' := [(4, Value.int 0), (3, Value.int x_3), (2, Value.ref a_2), (1, Value.int 101), (0, Value.ref x0)]) C.1 dX11_hashCode_12 (by rw [hXn]; decide) (by first | rfl | simp [va_rf_S, va_rf_cat, cat_i, cat_a, cat_l, cat_f, fin4_0, fin4_1, fin4_2, fin4_3]) ?_
  refine GK.sub (lv' := [(0, .ref x0), (1, .int 101), (2, va_rf (some a_2)), (3, .int x_3), (4, .int 0)]) [4, 3, 2, 1, 0] rfl ?_
  obtain ⟨n9, hw⟩ := hw
  exact wk_X11_hashCode_14 C hC9 S0 hret hXn hini hTb  n9 _ _ _ _ _ _ hw
/-! 203: GathersAllFaults$Rec.<init>(Ljava/util/LinkedHashMap;)V -/
def wb_X11_init_31 (cl : CT) (lm : Nat × Nat) (Q : QT) (E : ET) : Nat → Nat → Int32 → Option Nat → HS → Prop
  | 0 => fun _ _ _ _ => False
  | n + 1 => fun x0 x2 x3 h => ∃ a_1 : Nat, x3 = some a_1 ∧ (dp_Iterator_hasNext cl a_1 [] h (gI (fun r_3 h_2 => ((r_3 = 0 → (Q none h_2)) ∧ (¬ r_3 = 0 → (dp_Iterator_next cl a_1 [] h_2 (gR (fun r_8 h_7 => ck_Integer h_7 r_8 ∧ (∃ a_11 : Nat, r_8 = some a_11 ∧ (dp_Integer_intValue cl a_11 [] h_7 (gI (fun r_13 h_12 => (hT h_12 x0 = 4) ∧ (∀ r_16 : Option Nat, r_16 = hR h_12 19 x0 → (∃ a_17 : Nat, r_16 = some a_17 ∧ (hT h_12 a_17 = 101 ∧ (vp_in x2 (hN h_12 a_17) ∧ (∀ h_18 : HS, h_18 = sA h_12 a_17 x2.toNatClampNeg r_13 → (∀ x_19 : Int32, x_19 = x2 + 1 → (wb_X11_init_31 cl lm Q E n x0 x_19 (some a_1) h_18))))))))) E)))) E))))) E)
theorem wk_X11_init_31 {X : Ev} {G : GG} {cl : CT} {lm : Nat × Nat} {Q : QT} {E : ET} {h0 : HS} {d2 : Nat} (C : HC X G RX11 cX11_init (d2 + 1)) (hCl : CallsOK (ev_l X) G d2 cl ∧ hLm G lm ∧ 8 ≤ d2 ∧ LamsOK (ev_l X) G d2 cl) (S0 : HS0 X h0) (hret : (ev_h X).sig.returnType = (Option.none : Option Jvm.ClassFile.FieldType)) (hXn : ev_n X = 5) (hini : (ev_h X).name = "<init>") (hTb : (ev_c X).exceptionTable.toList = []) : ∀ (n : Nat) (x0 : Nat) (x2 : Int32) (x3 : Option Nat) (h : HS), wb_X11_init_31 cl lm Q E n x0 x2 x3 h → GH X G h (hQ X G h0 Q E) 31 [(0, .ref x0), (2, .int x2), (3, va_rf x3)] [] := by
  have hlm := hCl.2.1
  have hd8 := hCl.2.2.1
  have hd2 : 1 ≤ d2 := Nat.le_trans (by decide) hd8
  have hLa := hCl.2.2.2
  have hd1 : 1 ≤ d2 + 1 := Nat.le_add_left _ _
  have hC9 := hCl
  replace hCl := hCl.1
  intro n
  induction n with
  | zero => intro x0 x2 x3 h hw; exact hw.elim
  | succ n ih =>
  intro x0 x2 x3 h hw
  unfold wb_X11_init_31 at hw
  refine gk_qload_n (pc := 31) C.1 2 dX11_init_31 rfl rfl ?_
  obtain ⟨a_1, rfl, hw⟩ := hw
  refine gc_X11_33 (pc := 32) (As := []) (rest := []) C hCl (Nat.le_refl _) hw rfl rfl (Nat.le_of_ble_eq_true rfl) dX11_init_32 (fun v9 h_2 hp => ?_) (fun q_4 h_5 hw ht9 => ?_)
  rotate_left
  · exact gx_out C S0 (by rw [hTb]; decide) ht9 hw
  clear hw
  obtain ⟨r_3, rfl, hw⟩ := hp
  refine GK.at (p2 := 37) rfl ?_
  refine gk_if_eq (pc := 37) (tgt := 68) C.1 dX11_init_37 (by decide) (fun c_6 => ?_) (fun c_6 => ?_)
  · replace hw := hw.1 c_6
    exact gh_vret (pc := 68) C S0 hret dX11_init_68 hw
  · replace hw := hw.2 c_6
    refine gk_aload_n (pc := 40) C.1 2 dX11_init_40 rfl rfl ?_
    refine gc_X11_39 (pc := 41) (As := []) (rest := []) C hCl (Nat.le_refl _) hw rfl rfl (Nat.le_of_ble_eq_true rfl) dX11_init_41 (fun v9 h_7 hp => ?_) (fun q_9 h_10 hw ht9 => ?_)
    rotate_left
    · exact gx_out C S0 (by rw [hTb]; decide) ht9 hw
    clear hw
    obtain ⟨r_8, rfl, hw⟩ := hp
    refine GK.at (p2 := 46) rfl ?_
    obtain ⟨hs, hw⟩ := hw
    refine gh_ckc (pc := 46) (r := r_8) C q1188 (ck_Integer_ok hs) dX11_init_46 ?_
    obtain ⟨a_11, rfl, hw⟩ := hw
    refine gc_X11_45 (pc := 49) (As := []) (rest := []) C hCl (Nat.le_refl _) hw rfl rfl (Nat.le_of_ble_eq_true rfl) dX11_init_49 (fun v9 h_12 hp => ?_) (fun q_14 h_15 hw ht9 => ?_)
    rotate_left
    · exact gx_out C S0 (by rw [hTb]; decide) ht9 hw
    clear hw
    obtain ⟨r_13, rfl, hw⟩ := hp
    refine GK.at (p2 := 52) rfl ?_
    refine gk_istore (pc := 52) (lv' := [(4, Value.int r_13), (0, Value.ref x0), (2, Value.int x2), (3, Value.ref a_1)]) C.1 dX11_init_52 (by rw [hXn]; decide) (by first | rfl | simp [va_rf_S, va_rf_cat, cat_i, cat_a, cat_l, cat_f, fin4_0, fin4_1, fin4_2, fin4_3]) ?_
    refine gk_aload_n (pc := 54) C.1 1 dX11_init_54 rfl rfl ?_
    obtain ⟨ht, hw⟩ := hw
    refine gf_X11_19 (pc := 55) C ht dX11_init_55 (fun r_16 er_16 => ?_)
    replace hw := hw r_16 er_16
    refine gk_iload_n (pc := 58) C.1 2 dX11_init_58 rfl rfl ?_
    refine gk_iload (pc := 59) C.1 0 dX11_init_59 rfl ?_
    obtain ⟨a_17, rfl, hw⟩ := hw
    obtain ⟨ht, hi, hw⟩ := hw
    refine gh_iast (pc := 61) C ht hi dX11_init_61 ?_
    obtain ⟨h_18, eh_18⟩ : ∃ z : HS, z = sA h_12 a_17 x2.toNatClampNeg r_13 := ⟨_, rfl⟩
    rw [← eh_18]
    replace hw := hw h_18 eh_18
    obtain ⟨x_19, ex_19⟩ : ∃ z : Int32, z = x2 + 1 := ⟨_, rfl⟩
    replace hw := hw x_19 ex_19
    refine gk_iinc (pc := 62) (v := x_19) (lv' := [(2, Value.int x_19), (4, Value.int r_13), (0, Value.ref x0), (3, Value.ref a_1)]) C.1 2 dX11_init_62 rfl (by rw [ex_19]; rfl) (by rw [hXn]; decide) (by first | rfl | simp [va_rf_S, va_rf_cat, cat_i, cat_a, cat_l, cat_f, fin4_0, fin4_1, fin4_2, fin4_3]) ?_
    refine gk_goto (pc := 65) (tgt := 31) C.1 dX11_init_65 (by decide) ?_
    refine GK.sub (lv' := [(0, .ref x0), (2, .int x_19), (3, va_rf (some a_1))]) [2, 0, 3] rfl ?_
    exact ih _ _ _ _ hw
def wb_X11_init (cl : CT) (lm : Nat × Nat) (Q : QT) (E : ET) (x0 : Nat) (x1 : Option Nat) (h : HS) : Prop := cl 144 (.ref x0 :: []) h (gV (fun h_1 => (hT h_1 x0 = 4) ∧ (∀ h_4 : HS, h_4 = sR h_1 18 x0 x1 → (∃ a_5 : Nat, x1 = some a_5 ∧ (dp_LinkedHashMap_size cl a_5 [] h_4 (gI (fun r_7 h_6 => ¬ r_7 < 0 ∧ (r_7.toNatClampNeg * 4 ≤ 536870912 ∧ (hZ h_6 + 1 ≤ lm.1 ∧ (hL h_6 + r_7.toNatClampNeg ≤ lm.2 ∧ (∀ (a_11 : Nat) (h_10 : HS), a_11 = hZ h_6 → h_10 = hNew h_6 101 r_7.toNatClampNeg r_7.toNatClampNeg → ((hT h_10 x0 = 4) ∧ (∀ h_12 : HS, h_12 = sR h_10 19 x0 (some a_11) → (dp_LinkedHashMap_keySet cl a_5 [] h_12 (gR (fun r_14 h_13 => ∃ a_17 : Nat, r_14 = some a_17 ∧ (dp_Set_iterator cl a_17 [] h_13 (gR (fun r_19 h_18 => ∃ fu : Nat, wb_X11_init_31 cl lm Q E fu x0 0 r_19 h_18)) E))) E))))))))) E))))) E
theorem wx_X11_init {l : Launch} (hst : l.stackTraces = false) {G : GG} {cl : CT} {lm : Nat × Nat} {Q : QT} {E : ET} {d2 : Nat} (hCl : CallsOK l G d2 cl ∧ hLm G lm ∧ 8 ≤ d2 ∧ LamsOK l G d2 cl) {x0 : Nat} {x1 : Option Nat} {h : HS} (hw : wb_X11_init cl lm Q E x0 x1 h) : HMet l G yX11_init (ws_ yX11_init cX11_init 5 ((Option.none : Option Jvm.ClassFile.FieldType))) (d2 + 1) [.ref x0, va_rf x1] h Q E := by
  refine gh_met (own := RX11) rfl (by decide +kernel) hst (by simp only [lg_sl_i, lg_sl_r, lg_sl_a, lg_sl_2, lg_sl_f, lg_sl_0]; decide) (fun X hXl hXn hret hnm hTb h0 eh C S0 => ?_)
  subst hXl
  have hlm := hCl.2.1
  have hd8 := hCl.2.2.1
  have hd2 : 1 ≤ d2 := Nat.le_trans (by decide) hd8
  have hLa := hCl.2.2.2
  have hd1 : 1 ≤ d2 + 1 := Nat.le_add_left _ _
  have hC9 := hCl
  replace hCl := hCl.1
  have hini : (ev_h X).name = "<init>" := hnm.1
  unfold wb_X11_init at hw
  refine GK.sub (lv' := [(0, .ref x0), (1, va_rf x1)]) [0, 1] (by simp only [lv_args_i, lv_args_r, lv_args_a, lv_args_l, lv_args_f, lv_args_0]; rfl) ?_
  refine gk_aload_n (pc := 0) C.1 0 dX11_init_0 rfl rfl ?_
  refine gc_X11_1 (pc := 1) (As := []) (rest := []) C hCl (Nat.le_refl _) hw rfl rfl (Nat.le_of_ble_eq_true rfl) dX11_init_1 (fun v9 h_1 hp => ?_) (fun q_2 h_3 hw ht9 => ?_)
  rotate_left
  · exact gx_out C S0 (by rw [hTb]; decide) ht9 hw
  clear hw
  obtain ⟨rfl, hw⟩ := hp
  refine GK.at (p2 := 4) rfl ?_
  refine gk_aload_n (pc := 4) C.1 0 dX11_init_4 rfl rfl ?_
  refine gk_qload_n (pc := 5) C.1 1 dX11_init_5 rfl rfl ?_
  obtain ⟨ht, hw⟩ := hw
  refine gfp_X11_7 (pc := 6) (r := x1) C hini ht dX11_init_6 (fun h_4 eh_4 => ?_)
  replace hw := hw h_4 eh_4
  refine gk_aload_n (pc := 9) C.1 0 dX11_init_9 rfl rfl ?_
  refine gk_qload_n (pc := 10) C.1 1 dX11_init_10 rfl rfl ?_
  obtain ⟨a_5, rfl, hw⟩ := hw
  refine gc_X11_13 (pc := 11) (As := []) (rest := [.ref x0]) C hCl (Nat.le_refl _) hw rfl rfl (Nat.le_of_ble_eq_true rfl) dX11_init_11 (fun v9 h_6 hp => ?_) (fun q_8 h_9 hw ht9 => ?_)
  rotate_left
  · exact gx_out C S0 (by rw [hTb]; decide) ht9 hw
  clear hw
  obtain ⟨r_7, rfl, hw⟩ := hp
  refine GK.at (p2 := 14) rfl ?_
  obtain ⟨hn0, hby, hr1, hr2, hw⟩ := hw
  refine gh_newa (pc := 14) (atype := .int) (t := 101) (t0 := 0) (ty := .int) C ⟨by decide, by decide⟩ rfl rfl (fun _ z => by cases z) rfl q261 hn0 hby (hlm.1 ▸ hr1) (hlm.2 ▸ hr2) dX11_init_14 ?_
  obtain ⟨h_10, eh_10⟩ : ∃ z : HS, z = hNew h_6 101 r_7.toNatClampNeg r_7.toNatClampNeg := ⟨_, rfl⟩
  rw [← eh_10]
  obtain ⟨a_11, ea_11⟩ : ∃ z : Nat, z = hZ h_6 := ⟨_, rfl⟩
  rw [← ea_11]
  replace hw := hw a_11 h_10 ea_11 eh_10
  obtain ⟨ht, hw⟩ := hw
  refine gfp_X11_19 (pc := 16) (r := (some a_11)) C hini ht dX11_init_16 (fun h_12 eh_12 => ?_)
  replace hw := hw h_12 eh_12
  refine gk_iconst (pc := 19) (v := 0) C.1 dX11_init_19 (by decide) ?_
  refine gk_istore_n (pc := 20) (lv' := [(2, Value.int 0), (0, Value.ref x0), (1, Value.ref a_5)]) C.1 dX11_init_20 rfl (by rw [hXn]; decide) (by first | rfl | simp [va_rf_S, va_rf_cat, cat_i, cat_a, cat_l, cat_f, fin4_0, fin4_1, fin4_2, fin4_3]) ?_
  refine gk_aload_n (pc := 21) C.1 2 dX11_init_21 rfl rfl ?_
  refine gc_X11_23 (pc := 22) (As := []) (rest := []) C hCl (Nat.le_refl _) hw rfl rfl (Nat.le_of_ble_eq_true rfl) dX11_init_22 (fun v9 h_13 hp => ?_) (fun q_15 h_16 hw ht9 => ?_)
  rotate_left
  · exact gx_out C S0 (by rw [hTb]; decide) ht9 hw
  clear hw
  obtain ⟨r_14, rfl, hw⟩ := hp
  refine GK.at (p2 := 25) rfl ?_
  obtain ⟨a_17, rfl, hw⟩ := hw
  refine gc_X11_27 (pc := 25) (As := []) (rest := []) C hCl (Nat.le_refl _) hw rfl rfl (Nat.le_of_ble_eq_true rfl) dX11_init_25 (fun v9 h_18 hp => ?_) (fun q_20 h_21 hw ht9 => ?_)
  rotate_left
  · exact gx_out C S0 (by rw [hTb]; decide) ht9 hw
  clear hw
  obtain ⟨r_19, rfl, hw⟩ := hp
  refine GK.at (p2 := 30) rfl ?_
  refine gk_qstore_n (pc := 30) (lv' := [(3, va_rf r_19), (2, Value.int 0), (0, Value.ref x0), (1, Value.ref a_5)]) C.1 dX11_init_30 rfl (by rw [hXn]; decide) (by first | rfl | simp [va_rf_S, va_rf_cat, cat_i, cat_a, cat_l, cat_f, fin4_0, fin4_1, fin4_2, fin4_3]) ?_
  refine GK.sub (lv' := [(0, .ref x0), (2, .int 0), (3, va_rf r_19)]) [2, 1, 0] rfl ?_
  obtain ⟨n9, hw⟩ := hw
  exact wk_X11_init_31 C hC9 S0 hret hXn hini hTb  n9 _ _ _ _ hw
/-! 204: GathersAllFaults$Rec.kind()I -/
def wb_X11_kind (cl : CT) (lm : Nat × Nat) (Q : QT) (E : ET) (x0 : Nat) (h : HS) : Prop := Q (some (.int 2)) h
theorem wx_X11_kind {l : Launch} (hst : l.stackTraces = false) {G : GG} {cl : CT} {lm : Nat × Nat} {Q : QT} {E : ET} {d2 : Nat} (hCl : CallsOK l G d2 cl ∧ hLm G lm ∧ 8 ≤ d2 ∧ LamsOK l G d2 cl) {x0 : Nat} {h : HS} (hw : wb_X11_kind cl lm Q E x0 h) : HMet l G yX11_kind (ws_ yX11_kind cX11_kind 1 ((Option.some Jvm.ClassFile.FieldType.int))) (d2 + 1) [.ref x0] h Q E := by
  refine gh_met (own := RX11) rfl (by decide +kernel) hst (by simp only [lg_sl_i, lg_sl_r, lg_sl_a, lg_sl_2, lg_sl_f, lg_sl_0]; decide) (fun X hXl hXn hret hnm hTb h0 eh C S0 => ?_)
  subst hXl
  have hlm := hCl.2.1
  have hd8 := hCl.2.2.1
  have hd2 : 1 ≤ d2 := Nat.le_trans (by decide) hd8
  have hLa := hCl.2.2.2
  have hd1 : 1 ≤ d2 + 1 := Nat.le_add_left _ _
  have hC9 := hCl
  replace hCl := hCl.1
  have hini : True := trivial
  unfold wb_X11_kind at hw
  refine GK.sub (lv' := [(0, .ref x0)]) [0] (by simp only [lv_args_i, lv_args_r, lv_args_a, lv_args_l, lv_args_f, lv_args_0]; rfl) ?_
  refine gk_iconst (pc := 0) (v := 2) C.1 dX11_kind_0 (by decide) ?_
  exact gh_iret (pc := 1) C S0 hret dX11_kind_1 hw
/-! 205: GathersAllFaults$Rec.lay(LGathersAllFaults$Row;I)V -/
def wb_X11_lay_12 (cl : CT) (lm : Nat × Nat) (Q : QT) (E : ET) : Nat → Nat → Option Nat → Int32 → Option Nat → Int32 → Int32 → HS → Prop
  | 0 => fun _ _ _ _ _ _ _ => False
  | n + 1 => fun x0 x1 x2 x3 x4 x5 h => ((x4 ≤ x5 → (Q none h)) ∧ (¬ x4 ≤ x5 → (∃ a_2 : Nat, x3 = some a_2 ∧ (hT h a_2 = 101 ∧ (vp_in x5 (hN h a_2) ∧ (∀ x_3 : Int32, x_3 = hA h a_2 x5.toNatClampNeg → ((hT h x0 = 4) ∧ (∀ r_4 : Option Nat, r_4 = hR h 18 x0 → (¬ x_3 < (-128) ∧ (¬ 127 < x_3 ∧ (∀ a_5 : Nat, hT h a_5 = 300 → hI h fINT a_5 = x_3 → (∃ a_6 : Nat, r_4 = some a_6 ∧ (dp_LinkedHashMap_get cl a_6 [.ref a_5] h (gR (fun r_8 h_7 => ck_GathersAllFaults_Value h_7 r_8 ∧ (∃ a_11 : Nat, r_8 = some a_11 ∧ (dp_Value_layAll cl a_11 [va_rf x1, .int ((10 * x2) + x_3)] h_7 (gV (fun h_12 => ∀ x_15 : Int32, x_15 = x5 + 1 → (wb_X11_lay_12 cl lm Q E n x0 x1 x2 (some a_2) x4 x_15 h_12))) E)))) E)))))))))))))
theorem wk_X11_lay_12 {X : Ev} {G : GG} {cl : CT} {lm : Nat × Nat} {Q : QT} {E : ET} {h0 : HS} {d2 : Nat} (C : HC X G RX11 cX11_lay (d2 + 1)) (hCl : CallsOK (ev_l X) G d2 cl ∧ hLm G lm ∧ 8 ≤ d2 ∧ LamsOK (ev_l X) G d2 cl) (S0 : HS0 X h0) (hret : (ev_h X).sig.returnType = (Option.none : Option Jvm.ClassFile.FieldType)) (hXn : ev_n X = 7) (hini : True) (hTb : (ev_c X).exceptionTable.toList = []) : ∀ (n : Nat) (x0 : Nat) (x1 : Option Nat) (x2 : Int32) (x3 : Option Nat) (x4 : Int32) (x5 : Int32) (h : HS), wb_X11_lay_12 cl lm Q E n x0 x1 x2 x3 x4 x5 h → GH X G h (hQ X G h0 Q E) 12 [(0, .ref x0), (1, va_rf x1), (2, .int x2), (3, va_rf x3), (4, .int x4), (5, .int x5)] [] := by
  have hlm := hCl.2.1
  have hd8 := hCl.2.2.1
  have hd2 : 1 ≤ d2 := Nat.le_trans (by decide) hd8
  have hLa := hCl.2.2.2
  have hd1 : 1 ≤ d2 + 1 := Nat.le_add_left _ _
  have hC9 := hCl
  replace hCl := hCl.1
  intro n
  induction n with
  | zero => intro x0 x1 x2 x3 x4 x5 h hw; exact hw.elim
  | succ n ih =>
  intro x0 x1 x2 x3 x4 x5 h hw
  unfold wb_X11_lay_12 at hw
  refine gk_iload (pc := 12) C.1 5 dX11_lay_12 rfl ?_
  refine gk_iload (pc := 14) C.1 4 dX11_lay_14 rfl ?_
  refine gk_icmp_ge (pc := 16) (tgt := 57) C.1 dX11_lay_16 (by decide) (fun c_1 => ?_) (fun c_1 => ?_)
  · replace hw := hw.1 c_1
    exact gh_vret (pc := 57) C S0 hret dX11_lay_57 hw
  · replace hw := hw.2 c_1
    refine gk_qload_n (pc := 19) C.1 3 dX11_lay_19 rfl rfl ?_
    refine gk_iload (pc := 20) C.1 5 dX11_lay_20 rfl ?_
    obtain ⟨a_2, rfl, hw⟩ := hw
    obtain ⟨ht, hi, hw⟩ := hw
    refine gh_iald (pc := 22) C ht hi dX11_lay_22 ?_
    obtain ⟨x_3, ex_3⟩ : ∃ z : Int32, z = hA h a_2 x5.toNatClampNeg := ⟨_, rfl⟩
    rw [← ex_3]
    replace hw := hw x_3 ex_3
    refine gk_istore (pc := 23) (lv' := [(6, Value.int x_3), (0, Value.ref x0), (1, va_rf x1), (2, Value.int x2), (3, Value.ref a_2), (4, Value.int x4), (5, Value.int x5)]) C.1 dX11_lay_23 (by rw [hXn]; decide) (by first | rfl | simp [va_rf_S, va_rf_cat, cat_i, cat_a, cat_l, cat_f, fin4_0, fin4_1, fin4_2, fin4_3]) ?_
    refine gk_aload_n (pc := 25) C.1 1 dX11_lay_25 rfl rfl ?_
    obtain ⟨ht, hw⟩ := hw
    refine gf_X11_7 (pc := 26) C ht dX11_lay_26 (fun r_4 er_4 => ?_)
    replace hw := hw r_4 er_4
    refine gk_iload (pc := 29) C.1 0 dX11_lay_29 rfl ?_
    obtain ⟨z1, z2, hw⟩ := hw
    refine gv_X11_48 (pc := 31) (rest := [va_rf r_4]) C hd2 z1 z2 (by simp [va_rf_S, va_rf_cat, cat_i, cat_a, cat_l, cat_f, fin4_0, fin4_1, fin4_2, fin4_3]) dX11_lay_31 (fun a_5 z3 z4 => ?_)
    replace hw := hw a_5 z3 z4
    obtain ⟨a_6, rfl, hw⟩ := hw
    refine gc_X11_52 (pc := 34) (As := [.ref a_5]) (rest := []) C hCl (Nat.le_refl _) hw rfl rfl (Nat.le_of_ble_eq_true rfl) dX11_lay_34 (fun v9 h_7 hp => ?_) (fun q_9 h_10 hw ht9 => ?_)
    rotate_left
    · exact gx_out C S0 (by rw [hTb]; decide) ht9 hw
    clear hw
    obtain ⟨r_8, rfl, hw⟩ := hp
    refine GK.at (p2 := 37) rfl ?_
    obtain ⟨hs, hw⟩ := hw
    refine gh_ckc (pc := 37) (r := r_8) C q643 (ck_GathersAllFaults_Value_ok hs) dX11_lay_37 ?_
    refine gk_qload_n (pc := 40) C.1 2 dX11_lay_40 rfl rfl ?_
    refine gk_bipush (pc := 41) (v := 10) C.1 dX11_lay_41 (by decide) ?_
    refine gk_iload_n (pc := 43) C.1 3 dX11_lay_43 rfl rfl ?_
    refine gk_imul (pc := 44) C.1 dX11_lay_44 ?_
    refine gk_iload (pc := 45) C.1 0 dX11_lay_45 rfl ?_
    refine gk_iadd (pc := 47) C.1 dX11_lay_47 ?_
    obtain ⟨a_11, rfl, hw⟩ := hw
    refine gc_X11_68 (pc := 48) (As := [va_rf x1, .int ((10 * x2) + x_3)]) (rest := []) C hCl (Nat.le_refl _) hw rfl rfl (Nat.le_of_ble_eq_true rfl) dX11_lay_48 (fun v9 h_12 hp => ?_) (fun q_13 h_14 hw ht9 => ?_)
    rotate_left
    · exact gx_out C S0 (by rw [hTb]; decide) ht9 hw
    clear hw
    obtain ⟨rfl, hw⟩ := hp
    refine GK.at (p2 := 51) rfl ?_
    obtain ⟨x_15, ex_15⟩ : ∃ z : Int32, z = x5 + 1 := ⟨_, rfl⟩
    replace hw := hw x_15 ex_15
    refine gk_iinc (pc := 51) (v := x_15) (lv' := [(5, Value.int x_15), (6, Value.int x_3), (0, Value.ref x0), (1, va_rf x1), (2, Value.int x2), (3, Value.ref a_2), (4, Value.int x4)]) C.1 6 dX11_lay_51 rfl (by rw [ex_15]; rfl) (by rw [hXn]; decide) (by first | rfl | simp [va_rf_S, va_rf_cat, cat_i, cat_a, cat_l, cat_f, fin4_0, fin4_1, fin4_2, fin4_3]) ?_
    refine gk_goto (pc := 54) (tgt := 12) C.1 dX11_lay_54 (by decide) ?_
    refine GK.sub (lv' := [(0, .ref x0), (1, va_rf x1), (2, .int x2), (3, va_rf (some a_2)), (4, .int x4), (5, .int x_15)]) [2, 3, 4, 5, 6, 0] rfl ?_
    exact ih _ _ _ _ _ _ _ hw
def wb_X11_lay (cl : CT) (lm : Nat × Nat) (Q : QT) (E : ET) (x0 : Nat) (x1 : Option Nat) (x2 : Int32) (h : HS) : Prop := (hT h x0 = 4) ∧ (∀ r_1 : Option Nat, r_1 = hR h 19 x0 → (∃ a_2 : Nat, r_1 = some a_2 ∧ (hT h a_2 = 101 ∧ (∀ x_3 : Int32, x_3 = nI (hN h a_2) → (∃ fu : Nat, wb_X11_lay_12 cl lm Q E fu x0 x1 x2 (some a_2) x_3 0 h)))))
theorem wx_X11_lay {l : Launch} (hst : l.stackTraces = false) {G : GG} {cl : CT} {lm : Nat × Nat} {Q : QT} {E : ET} {d2 : Nat} (hCl : CallsOK l G d2 cl ∧ hLm G lm ∧ 8 ≤ d2 ∧ LamsOK l G d2 cl) {x0 : Nat} {x1 : Option Nat} {x2 : Int32} {h : HS} (hw : wb_X11_lay cl lm Q E x0 x1 x2 h) : HMet l G yX11_lay (ws_ yX11_lay cX11_lay 7 ((Option.none : Option Jvm.ClassFile.FieldType))) (d2 + 1) [.ref x0, va_rf x1, .int x2] h Q E := by
  refine gh_met (own := RX11) rfl (by decide +kernel) hst (by simp only [lg_sl_i, lg_sl_r, lg_sl_a, lg_sl_2, lg_sl_f, lg_sl_0]; decide) (fun X hXl hXn hret hnm hTb h0 eh C S0 => ?_)
  subst hXl
  have hlm := hCl.2.1
  have hd8 := hCl.2.2.1
  have hd2 : 1 ≤ d2 := Nat.le_trans (by decide) hd8
  have hLa := hCl.2.2.2
  have hd1 : 1 ≤ d2 + 1 := Nat.le_add_left _ _
  have hC9 := hCl
  replace hCl := hCl.1
  have hini : True := trivial
  unfold wb_X11_lay at hw
  refine GK.sub (lv' := [(0, .ref x0), (1, va_rf x1), (2, .int x2)]) [0, 1, 2] (by simp only [lv_args_i, lv_args_r, lv_args_a, lv_args_l, lv_args_f, lv_args_0]; rfl) ?_
  refine gk_aload_n (pc := 0) C.1 0 dX11_lay_0 rfl rfl ?_
  obtain ⟨ht, hw⟩ := hw
  refine gf_X11_19 (pc := 1) C ht dX11_lay_1 (fun r_1 er_1 => ?_)
  replace hw := hw r_1 er_1
  refine gk_qstore_n (pc := 4) (lv' := [(3, va_rf r_1), (0, Value.ref x0), (1, va_rf x1), (2, Value.int x2)]) C.1 dX11_lay_4 rfl (by rw [hXn]; decide) (by first | rfl | simp [va_rf_S, va_rf_cat, cat_i, cat_a, cat_l, cat_f, fin4_0, fin4_1, fin4_2, fin4_3]) ?_
  refine gk_qload_n (pc := 5) C.1 0 dX11_lay_5 rfl rfl ?_
  obtain ⟨a_2, rfl, hw⟩ := hw
  obtain ⟨ht, hw⟩ := hw
  refine gh_len (pc := 6) (t0 := 0) (ty := tyA 101) C ht (by decide) rfl dX11_lay_6 ?_
  obtain ⟨x_3, ex_3⟩ : ∃ z : Int32, z = nI (hN h a_2) := ⟨_, rfl⟩
  rw [← ex_3]
  replace hw := hw x_3 ex_3
  refine gk_istore (pc := 7) (lv' := [(4, Value.int x_3), (3, Value.ref a_2), (0, Value.ref x0), (1, va_rf x1), (2, Value.int x2)]) C.1 dX11_lay_7 (by rw [hXn]; decide) (by first | rfl | simp [va_rf_S, va_rf_cat, cat_i, cat_a, cat_l, cat_f, fin4_0, fin4_1, fin4_2, fin4_3]) ?_
  refine gk_iconst (pc := 9) (v := 0) C.1 dX11_lay_9 (by decide) ?_
  refine gk_istore (pc := 10) (lv' := [(5, Value.int 0), (4, Value.int x_3), (3, Value.ref a_2), (0, Value.ref x0), (1, va_rf x1), (2, Value.int x2)]) C.1 dX11_lay_10 (by rw [hXn]; decide) (by first | rfl | simp [va_rf_S, va_rf_cat, cat_i, cat_a, cat_l, cat_f, fin4_0, fin4_1, fin4_2, fin4_3]) ?_
  refine GK.sub (lv' := [(0, .ref x0), (1, va_rf x1), (2, .int x2), (3, va_rf (some a_2)), (4, .int x_3), (5, .int 0)]) [3, 4, 5, 2, 1, 0] rfl ?_
  obtain ⟨n9, hw⟩ := hw
  exact wk_X11_lay_12 C hC9 S0 hret hXn hini hTb  n9 _ _ _ _ _ _ _ hw
/-! 206: GathersAllFaults$Rec.many()I -/
def wb_X11_many (cl : CT) (lm : Nat × Nat) (Q : QT) (E : ET) (x0 : Nat) (h : HS) : Prop := (hT h x0 = 4) ∧ (∀ r_1 : Option Nat, r_1 = hR h 18 x0 → (∃ a_2 : Nat, r_1 = some a_2 ∧ (dp_LinkedHashMap_size cl a_2 [] h (gI (fun r_4 h_3 => Q (some (.int r_4)) h_3)) E)))
theorem wx_X11_many {l : Launch} (hst : l.stackTraces = false) {G : GG} {cl : CT} {lm : Nat × Nat} {Q : QT} {E : ET} {d2 : Nat} (hCl : CallsOK l G d2 cl ∧ hLm G lm ∧ 8 ≤ d2 ∧ LamsOK l G d2 cl) {x0 : Nat} {h : HS} (hw : wb_X11_many cl lm Q E x0 h) : HMet l G yX11_many (ws_ yX11_many cX11_many 1 ((Option.some Jvm.ClassFile.FieldType.int))) (d2 + 1) [.ref x0] h Q E := by
  refine gh_met (own := RX11) rfl (by decide +kernel) hst (by simp only [lg_sl_i, lg_sl_r, lg_sl_a, lg_sl_2, lg_sl_f, lg_sl_0]; decide) (fun X hXl hXn hret hnm hTb h0 eh C S0 => ?_)
  subst hXl
  have hlm := hCl.2.1
  have hd8 := hCl.2.2.1
  have hd2 : 1 ≤ d2 := Nat.le_trans (by decide) hd8
  have hLa := hCl.2.2.2
  have hd1 : 1 ≤ d2 + 1 := Nat.le_add_left _ _
  have hC9 := hCl
  replace hCl := hCl.1
  have hini : True := trivial
  unfold wb_X11_many at hw
  refine GK.sub (lv' := [(0, .ref x0)]) [0] (by simp only [lv_args_i, lv_args_r, lv_args_a, lv_args_l, lv_args_f, lv_args_0]; rfl) ?_
  refine gk_aload_n (pc := 0) C.1 0 dX11_many_0 rfl rfl ?_
  obtain ⟨ht, hw⟩ := hw
  refine gf_X11_7 (pc := 1) C ht dX11_many_1 (fun r_1 er_1 => ?_)
  replace hw := hw r_1 er_1
  obtain ⟨a_2, rfl, hw⟩ := hw
  refine gc_X11_13 (pc := 4) (As := []) (rest := []) C hCl (Nat.le_refl _) hw rfl rfl (Nat.le_of_ble_eq_true rfl) dX11_many_4 (fun v9 h_3 hp => ?_) (fun q_5 h_6 hw ht9 => ?_)
  rotate_left
  · exact gx_out C S0 (by rw [hTb]; decide) ht9 hw
  clear hw
  obtain ⟨r_4, rfl, hw⟩ := hp
  refine GK.at (p2 := 7) rfl ?_
  exact gh_iret (pc := 7) C S0 hret dX11_many_7 hw
/-! 207: GathersAllFaults$Rec.size()I -/
def wb_X11_size_13 (cl : CT) (lm : Nat × Nat) (Q : QT) (E : ET) : Nat → Nat → Int32 → Option Nat → Int32 → Int32 → HS → Prop
  | 0 => fun _ _ _ _ _ _ => False
  | n + 1 => fun x0 x1 x2 x3 x4 h => ((x3 ≤ x4 → (Q (some (.int x1)) h)) ∧ (¬ x3 ≤ x4 → (∃ a_2 : Nat, x2 = some a_2 ∧ (hT h a_2 = 101 ∧ (vp_in x4 (hN h a_2) ∧ (∀ x_3 : Int32, x_3 = hA h a_2 x4.toNatClampNeg → ((hT h x0 = 4) ∧ (∀ r_4 : Option Nat, r_4 = hR h 18 x0 → (¬ x_3 < (-128) ∧ (¬ 127 < x_3 ∧ (∀ a_5 : Nat, hT h a_5 = 300 → hI h fINT a_5 = x_3 → (∃ a_6 : Nat, r_4 = some a_6 ∧ (dp_LinkedHashMap_get cl a_6 [.ref a_5] h (gR (fun r_8 h_7 => ck_GathersAllFaults_Value h_7 r_8 ∧ (∃ a_11 : Nat, r_8 = some a_11 ∧ (dp_Value_size cl a_11 [] h_7 (gI (fun r_13 h_12 => ∀ x_16 : Int32, x_16 = x1 + r_13 → (∀ x_17 : Int32, x_17 = x4 + 1 → (wb_X11_size_13 cl lm Q E n x0 x_16 (some a_2) x3 x_17 h_12)))) E)))) E)))))))))))))
theorem wk_X11_size_13 {X : Ev} {G : GG} {cl : CT} {lm : Nat × Nat} {Q : QT} {E : ET} {h0 : HS} {d2 : Nat} (C : HC X G RX11 cX11_size (d2 + 1)) (hCl : CallsOK (ev_l X) G d2 cl ∧ hLm G lm ∧ 8 ≤ d2 ∧ LamsOK (ev_l X) G d2 cl) (S0 : HS0 X h0) (hret : (ev_h X).sig.returnType = (Option.some Jvm.ClassFile.FieldType.int)) (hXn : ev_n X = 6) (hini : True) (hTb : (ev_c X).exceptionTable.toList = []) : ∀ (n : Nat) (x0 : Nat) (x1 : Int32) (x2 : Option Nat) (x3 : Int32) (x4 : Int32) (h : HS), wb_X11_size_13 cl lm Q E n x0 x1 x2 x3 x4 h → GH X G h (hQ X G h0 Q E) 13 [(0, .ref x0), (1, .int x1), (2, va_rf x2), (3, .int x3), (4, .int x4)] [] := by
  have hlm := hCl.2.1
  have hd8 := hCl.2.2.1
  have hd2 : 1 ≤ d2 := Nat.le_trans (by decide) hd8
  have hLa := hCl.2.2.2
  have hd1 : 1 ≤ d2 + 1 := Nat.le_add_left _ _
  have hC9 := hCl
  replace hCl := hCl.1
  intro n
  induction n with
  | zero => intro x0 x1 x2 x3 x4 h hw; exact hw.elim
  | succ n ih =>
  intro x0 x1 x2 x3 x4 h hw
  unfold wb_X11_size_13 at hw
  refine gk_iload (pc := 13) C.1 4 dX11_size_13 rfl ?_
  refine gk_iload_n (pc := 15) C.1 3 dX11_size_15 rfl rfl ?_
  refine gk_icmp_ge (pc := 16) (tgt := 52) C.1 dX11_size_16 (by decide) (fun c_1 => ?_) (fun c_1 => ?_)
  · replace hw := hw.1 c_1
    refine gk_iload_n (pc := 52) C.1 1 dX11_size_52 rfl rfl ?_
    exact gh_iret (pc := 53) C S0 hret dX11_size_53 hw
  · replace hw := hw.2 c_1
    refine gk_qload_n (pc := 19) C.1 2 dX11_size_19 rfl rfl ?_
    refine gk_iload (pc := 20) C.1 4 dX11_size_20 rfl ?_
    obtain ⟨a_2, rfl, hw⟩ := hw
    obtain ⟨ht, hi, hw⟩ := hw
    refine gh_iald (pc := 22) C ht hi dX11_size_22 ?_
    obtain ⟨x_3, ex_3⟩ : ∃ z : Int32, z = hA h a_2 x4.toNatClampNeg := ⟨_, rfl⟩
    rw [← ex_3]
    replace hw := hw x_3 ex_3
    refine gk_istore (pc := 23) (lv' := [(5, Value.int x_3), (0, Value.ref x0), (1, Value.int x1), (2, Value.ref a_2), (3, Value.int x3), (4, Value.int x4)]) C.1 dX11_size_23 (by rw [hXn]; decide) (by first | rfl | simp [va_rf_S, va_rf_cat, cat_i, cat_a, cat_l, cat_f, fin4_0, fin4_1, fin4_2, fin4_3]) ?_
    refine gk_iload_n (pc := 25) C.1 2 dX11_size_25 rfl rfl ?_
    refine gk_aload_n (pc := 26) C.1 1 dX11_size_26 rfl rfl ?_
    obtain ⟨ht, hw⟩ := hw
    refine gf_X11_7 (pc := 27) C ht dX11_size_27 (fun r_4 er_4 => ?_)
    replace hw := hw r_4 er_4
    refine gk_iload (pc := 30) C.1 0 dX11_size_30 rfl ?_
    obtain ⟨z1, z2, hw⟩ := hw
    refine gv_X11_48 (pc := 32) (rest := [va_rf r_4, .int x1]) C hd2 z1 z2 (by simp [va_rf_S, va_rf_cat, cat_i, cat_a, cat_l, cat_f, fin4_0, fin4_1, fin4_2, fin4_3]) dX11_size_32 (fun a_5 z3 z4 => ?_)
    replace hw := hw a_5 z3 z4
    obtain ⟨a_6, rfl, hw⟩ := hw
    refine gc_X11_52 (pc := 35) (As := [.ref a_5]) (rest := [.int x1]) C hCl (Nat.le_refl _) hw rfl rfl (Nat.le_of_ble_eq_true rfl) dX11_size_35 (fun v9 h_7 hp => ?_) (fun q_9 h_10 hw ht9 => ?_)
    rotate_left
    · exact gx_out C S0 (by rw [hTb]; decide) ht9 hw
    clear hw
    obtain ⟨r_8, rfl, hw⟩ := hp
    refine GK.at (p2 := 38) rfl ?_
    obtain ⟨hs, hw⟩ := hw
    refine gh_ckc (pc := 38) (r := r_8) C q643 (ck_GathersAllFaults_Value_ok hs) dX11_size_38 ?_
    obtain ⟨a_11, rfl, hw⟩ := hw
    refine gc_X11_56 (pc := 41) (As := []) (rest := [.int x1]) C hCl (Nat.le_refl _) hw rfl rfl (Nat.le_of_ble_eq_true rfl) dX11_size_41 (fun v9 h_12 hp => ?_) (fun q_14 h_15 hw ht9 => ?_)
    rotate_left
    · exact gx_out C S0 (by rw [hTb]; decide) ht9 hw
    clear hw
    obtain ⟨r_13, rfl, hw⟩ := hp
    refine GK.at (p2 := 44) rfl ?_
    refine gk_iadd (pc := 44) C.1 dX11_size_44 ?_
    obtain ⟨x_16, ex_16⟩ : ∃ z : Int32, z = x1 + r_13 := ⟨_, rfl⟩
    rw [← ex_16]
    replace hw := hw x_16 ex_16
    refine gk_istore_n (pc := 45) (lv' := [(1, Value.int x_16), (5, Value.int x_3), (0, Value.ref x0), (2, Value.ref a_2), (3, Value.int x3), (4, Value.int x4)]) C.1 dX11_size_45 rfl (by rw [hXn]; decide) (by first | rfl | simp [va_rf_S, va_rf_cat, cat_i, cat_a, cat_l, cat_f, fin4_0, fin4_1, fin4_2, fin4_3]) ?_
    obtain ⟨x_17, ex_17⟩ : ∃ z : Int32, z = x4 + 1 := ⟨_, rfl⟩
    replace hw := hw x_17 ex_17
    refine gk_iinc (pc := 46) (v := x_17) (lv' := [(4, Value.int x_17), (1, Value.int x_16), (5, Value.int x_3), (0, Value.ref x0), (2, Value.ref a_2), (3, Value.int x3)]) C.1 5 dX11_size_46 rfl (by rw [ex_17]; rfl) (by rw [hXn]; decide) (by first | rfl | simp [va_rf_S, va_rf_cat, cat_i, cat_a, cat_l, cat_f, fin4_0, fin4_1, fin4_2, fin4_3]) ?_
    refine gk_goto (pc := 49) (tgt := 13) C.1 dX11_size_49 (by decide) ?_
    refine GK.sub (lv' := [(0, .ref x0), (1, .int x_16), (2, va_rf (some a_2)), (3, .int x3), (4, .int x_17)]) [3, 1, 4, 5, 0] rfl ?_
    exact ih _ _ _ _ _ _ hw
def wb_X11_size (cl : CT) (lm : Nat × Nat) (Q : QT) (E : ET) (x0 : Nat) (h : HS) : Prop := (hT h x0 = 4) ∧ (∀ r_1 : Option Nat, r_1 = hR h 19 x0 → (∃ a_2 : Nat, r_1 = some a_2 ∧ (hT h a_2 = 101 ∧ (∀ x_3 : Int32, x_3 = nI (hN h a_2) → (∃ fu : Nat, wb_X11_size_13 cl lm Q E fu x0 1 (some a_2) x_3 0 h)))))
theorem wx_X11_size {l : Launch} (hst : l.stackTraces = false) {G : GG} {cl : CT} {lm : Nat × Nat} {Q : QT} {E : ET} {d2 : Nat} (hCl : CallsOK l G d2 cl ∧ hLm G lm ∧ 8 ≤ d2 ∧ LamsOK l G d2 cl) {x0 : Nat} {h : HS} (hw : wb_X11_size cl lm Q E x0 h) : HMet l G yX11_size (ws_ yX11_size cX11_size 6 ((Option.some Jvm.ClassFile.FieldType.int))) (d2 + 1) [.ref x0] h Q E := by
  refine gh_met (own := RX11) rfl (by decide +kernel) hst (by simp only [lg_sl_i, lg_sl_r, lg_sl_a, lg_sl_2, lg_sl_f, lg_sl_0]; decide) (fun X hXl hXn hret hnm hTb h0 eh C S0 => ?_)
  subst hXl
  have hlm := hCl.2.1
  have hd8 := hCl.2.2.1
  have hd2 : 1 ≤ d2 := Nat.le_trans (by decide) hd8
  have hLa := hCl.2.2.2
  have hd1 : 1 ≤ d2 + 1 := Nat.le_add_left _ _
  have hC9 := hCl
  replace hCl := hCl.1
  have hini : True := trivial
  unfold wb_X11_size at hw
  refine GK.sub (lv' := [(0, .ref x0)]) [0] (by simp only [lv_args_i, lv_args_r, lv_args_a, lv_args_l, lv_args_f, lv_args_0]; rfl) ?_
  refine gk_iconst (pc := 0) (v := 1) C.1 dX11_size_0 (by decide) ?_
  refine gk_istore_n (pc := 1) (lv' := [(1, Value.int 1), (0, Value.ref x0)]) C.1 dX11_size_1 rfl (by rw [hXn]; decide) (by first | rfl | simp [va_rf_S, va_rf_cat, cat_i, cat_a, cat_l, cat_f, fin4_0, fin4_1, fin4_2, fin4_3]) ?_
  refine gk_aload_n (pc := 2) C.1 1 dX11_size_2 rfl rfl ?_
  obtain ⟨ht, hw⟩ := hw
  refine gf_X11_19 (pc := 3) C ht dX11_size_3 (fun r_1 er_1 => ?_)
  replace hw := hw r_1 er_1
  refine gk_qstore_n (pc := 6) (lv' := [(2, va_rf r_1), (1, Value.int 1), (0, Value.ref x0)]) C.1 dX11_size_6 rfl (by rw [hXn]; decide) (by first | rfl | simp [va_rf_S, va_rf_cat, cat_i, cat_a, cat_l, cat_f, fin4_0, fin4_1, fin4_2, fin4_3]) ?_
  refine gk_qload_n (pc := 7) C.1 0 dX11_size_7 rfl rfl ?_
  obtain ⟨a_2, rfl, hw⟩ := hw
  obtain ⟨ht, hw⟩ := hw
  refine gh_len (pc := 8) (t0 := 0) (ty := tyA 101) C ht (by decide) rfl dX11_size_8 ?_
  obtain ⟨x_3, ex_3⟩ : ∃ z : Int32, z = nI (hN h a_2) := ⟨_, rfl⟩
  rw [← ex_3]
  replace hw := hw x_3 ex_3
  refine gk_istore_n (pc := 9) (lv' := [(3, Value.int x_3), (2, Value.ref a_2), (1, Value.int 1), (0, Value.ref x0)]) C.1 dX11_size_9 rfl (by rw [hXn]; decide) (by first | rfl | simp [va_rf_S, va_rf_cat, cat_i, cat_a, cat_l, cat_f, fin4_0, fin4_1, fin4_2, fin4_3]) ?_
  refine gk_iconst (pc := 10) (v := 0) C.1 dX11_size_10 (by decide) ?_
  refine gk_istore (pc := 11) (lv' := [(4, Value.int 0), (3, Value.int x_3), (2, Value.ref a_2), (1, Value.int 1), (0, Value.ref x0)]) C.1 dX11_size_11 (by rw [hXn]; decide) (by first | rfl | simp [va_rf_S, va_rf_cat, cat_i, cat_a, cat_l, cat_f, fin4_0, fin4_1, fin4_2, fin4_3]) ?_
  refine GK.sub (lv' := [(0, .ref x0), (1, .int 1), (2, va_rf (some a_2)), (3, .int x_3), (4, .int 0)]) [4, 3, 2, 1, 0] rfl ?_
  obtain ⟨n9, hw⟩ := hw
  exact wk_X11_size_13 C hC9 S0 hret hXn hini hTb  n9 _ _ _ _ _ _ hw
/-! 208: GathersAllFaults$Rec.step(I)LGathersAllFaults$Value; -/
def wb_X11_step (cl : CT) (lm : Nat × Nat) (Q : QT) (E : ET) (x0 : Nat) (x1 : Int32) (h : HS) : Prop := (hT h x0 = 4) ∧ (∀ r_1 : Option Nat, r_1 = hR h 18 x0 → (¬ x1 < (-128) ∧ (¬ 127 < x1 ∧ (∀ a_2 : Nat, hT h a_2 = 300 → hI h fINT a_2 = x1 → (∃ a_3 : Nat, r_1 = some a_3 ∧ (dp_LinkedHashMap_get cl a_3 [.ref a_2] h (gR (fun r_5 h_4 => ck_GathersAllFaults_Value h_4 r_5 ∧ (Q (some (va_rf r_5)) h_4))) E))))))
theorem wx_X11_step {l : Launch} (hst : l.stackTraces = false) {G : GG} {cl : CT} {lm : Nat × Nat} {Q : QT} {E : ET} {d2 : Nat} (hCl : CallsOK l G d2 cl ∧ hLm G lm ∧ 8 ≤ d2 ∧ LamsOK l G d2 cl) {x0 : Nat} {x1 : Int32} {h : HS} (hw : wb_X11_step cl lm Q E x0 x1 h) : HMet l G yX11_step (ws_ yX11_step cX11_step 2 ((Option.some (Jvm.ClassFile.FieldType.object "GathersAllFaults$Value")))) (d2 + 1) [.ref x0, .int x1] h Q E := by
  refine gh_met (own := RX11) rfl (by decide +kernel) hst (by simp only [lg_sl_i, lg_sl_r, lg_sl_a, lg_sl_2, lg_sl_f, lg_sl_0]; decide) (fun X hXl hXn hret hnm hTb h0 eh C S0 => ?_)
  subst hXl
  have hlm := hCl.2.1
  have hd8 := hCl.2.2.1
  have hd2 : 1 ≤ d2 := Nat.le_trans (by decide) hd8
  have hLa := hCl.2.2.2
  have hd1 : 1 ≤ d2 + 1 := Nat.le_add_left _ _
  have hC9 := hCl
  replace hCl := hCl.1
  have hini : True := trivial
  unfold wb_X11_step at hw
  refine GK.sub (lv' := [(0, .ref x0), (1, .int x1)]) [0, 1] (by simp only [lv_args_i, lv_args_r, lv_args_a, lv_args_l, lv_args_f, lv_args_0]; rfl) ?_
  refine gk_aload_n (pc := 0) C.1 0 dX11_step_0 rfl rfl ?_
  obtain ⟨ht, hw⟩ := hw
  refine gf_X11_7 (pc := 1) C ht dX11_step_1 (fun r_1 er_1 => ?_)
  replace hw := hw r_1 er_1
  refine gk_iload_n (pc := 4) C.1 1 dX11_step_4 rfl rfl ?_
  obtain ⟨z1, z2, hw⟩ := hw
  refine gv_X11_48 (pc := 5) (rest := [va_rf r_1]) C hd2 z1 z2 (by simp [va_rf_S, va_rf_cat, cat_i, cat_a, cat_l, cat_f, fin4_0, fin4_1, fin4_2, fin4_3]) dX11_step_5 (fun a_2 z3 z4 => ?_)
  replace hw := hw a_2 z3 z4
  obtain ⟨a_3, rfl, hw⟩ := hw
  refine gc_X11_52 (pc := 8) (As := [.ref a_2]) (rest := []) C hCl (Nat.le_refl _) hw rfl rfl (Nat.le_of_ble_eq_true rfl) dX11_step_8 (fun v9 h_4 hp => ?_) (fun q_6 h_7 hw ht9 => ?_)
  rotate_left
  · exact gx_out C S0 (by rw [hTb]; decide) ht9 hw
  clear hw
  obtain ⟨r_5, rfl, hw⟩ := hp
  refine GK.at (p2 := 11) rfl ?_
  obtain ⟨hs, hw⟩ := hw
  refine gh_ckc (pc := 11) (r := r_5) C q643 (ck_GathersAllFaults_Value_ok hs) dX11_step_11 ?_
  exact gh_aret (pc := 14) (r := r_5) C S0 hret (Or.inl ⟨_, rfl⟩) dX11_step_14 hw
/-! 209: GathersAllFaults$Rec.total()I -/
def wb_X11_total_13 (cl : CT) (lm : Nat × Nat) (Q : QT) (E : ET) : Nat → Nat → Int32 → Option Nat → Int32 → Int32 → HS → Prop
  | 0 => fun _ _ _ _ _ _ => False
  | n + 1 => fun x0 x1 x2 x3 x4 h => ((x3 ≤ x4 → (Q (some (.int x1)) h)) ∧ (¬ x3 ≤ x4 → (∃ a_2 : Nat, x2 = some a_2 ∧ (hT h a_2 = 101 ∧ (vp_in x4 (hN h a_2) ∧ (∀ x_3 : Int32, x_3 = hA h a_2 x4.toNatClampNeg → ((hT h x0 = 4) ∧ (∀ r_4 : Option Nat, r_4 = hR h 18 x0 → (¬ x_3 < (-128) ∧ (¬ 127 < x_3 ∧ (∀ a_5 : Nat, hT h a_5 = 300 → hI h fINT a_5 = x_3 → (∃ a_6 : Nat, r_4 = some a_6 ∧ (dp_LinkedHashMap_get cl a_6 [.ref a_5] h (gR (fun r_8 h_7 => ck_GathersAllFaults_Value h_7 r_8 ∧ (∃ a_11 : Nat, r_8 = some a_11 ∧ (dp_Value_total cl a_11 [] h_7 (gI (fun r_13 h_12 => ∀ x_16 : Int32, x_16 = x1 + r_13 → (∀ x_17 : Int32, x_17 = x4 + 1 → (wb_X11_total_13 cl lm Q E n x0 x_16 (some a_2) x3 x_17 h_12)))) E)))) E)))))))))))))
theorem wk_X11_total_13 {X : Ev} {G : GG} {cl : CT} {lm : Nat × Nat} {Q : QT} {E : ET} {h0 : HS} {d2 : Nat} (C : HC X G RX11 cX11_total (d2 + 1)) (hCl : CallsOK (ev_l X) G d2 cl ∧ hLm G lm ∧ 8 ≤ d2 ∧ LamsOK (ev_l X) G d2 cl) (S0 : HS0 X h0) (hret : (ev_h X).sig.returnType = (Option.some Jvm.ClassFile.FieldType.int)) (hXn : ev_n X = 6) (hini : True) (hTb : (ev_c X).exceptionTable.toList = []) : ∀ (n : Nat) (x0 : Nat) (x1 : Int32) (x2 : Option Nat) (x3 : Int32) (x4 : Int32) (h : HS), wb_X11_total_13 cl lm Q E n x0 x1 x2 x3 x4 h → GH X G h (hQ X G h0 Q E) 13 [(0, .ref x0), (1, .int x1), (2, va_rf x2), (3, .int x3), (4, .int x4)] [] := by
  have hlm := hCl.2.1
  have hd8 := hCl.2.2.1
  have hd2 : 1 ≤ d2 := Nat.le_trans (by decide) hd8
  have hLa := hCl.2.2.2
  have hd1 : 1 ≤ d2 + 1 := Nat.le_add_left _ _
  have hC9 := hCl
  replace hCl := hCl.1
  intro n
  induction n with
  | zero => intro x0 x1 x2 x3 x4 h hw; exact hw.elim
  | succ n ih =>
  intro x0 x1 x2 x3 x4 h hw
  unfold wb_X11_total_13 at hw
  refine gk_iload (pc := 13) C.1 4 dX11_total_13 rfl ?_
  refine gk_iload_n (pc := 15) C.1 3 dX11_total_15 rfl rfl ?_
  refine gk_icmp_ge (pc := 16) (tgt := 52) C.1 dX11_total_16 (by decide) (fun c_1 => ?_) (fun c_1 => ?_)
  · replace hw := hw.1 c_1
    refine gk_iload_n (pc := 52) C.1 1 dX11_total_52 rfl rfl ?_
    exact gh_iret (pc := 53) C S0 hret dX11_total_53 hw
  · replace hw := hw.2 c_1
    refine gk_qload_n (pc := 19) C.1 2 dX11_total_19 rfl rfl ?_
    refine gk_iload (pc := 20) C.1 4 dX11_total_20 rfl ?_
    obtain ⟨a_2, rfl, hw⟩ := hw
    obtain ⟨ht, hi, hw⟩ := hw
    refine gh_iald (pc := 22) C ht hi dX11_total_22 ?_
    obtain ⟨x_3, ex_3⟩ : ∃ z : Int32, z = hA h a_2 x4.toNatClampNeg := ⟨_, rfl⟩
    rw [← ex_3]
    replace hw := hw x_3 ex_3
    refine gk_istore (pc := 23) (lv' := [(5, Value.int x_3), (0, Value.ref x0), (1, Value.int x1), (2, Value.ref a_2), (3, Value.int x3), (4, Value.int x4)]) C.1 dX11_total_23 (by rw [hXn]; decide) (by first | rfl | simp [va_rf_S, va_rf_cat, cat_i, cat_a, cat_l, cat_f, fin4_0, fin4_1, fin4_2, fin4_3]) ?_
    refine gk_iload_n (pc := 25) C.1 2 dX11_total_25 rfl rfl ?_
    refine gk_aload_n (pc := 26) C.1 1 dX11_total_26 rfl rfl ?_
    obtain ⟨ht, hw⟩ := hw
    refine gf_X11_7 (pc := 27) C ht dX11_total_27 (fun r_4 er_4 => ?_)
    replace hw := hw r_4 er_4
    refine gk_iload (pc := 30) C.1 0 dX11_total_30 rfl ?_
    obtain ⟨z1, z2, hw⟩ := hw
    refine gv_X11_48 (pc := 32) (rest := [va_rf r_4, .int x1]) C hd2 z1 z2 (by simp [va_rf_S, va_rf_cat, cat_i, cat_a, cat_l, cat_f, fin4_0, fin4_1, fin4_2, fin4_3]) dX11_total_32 (fun a_5 z3 z4 => ?_)
    replace hw := hw a_5 z3 z4
    obtain ⟨a_6, rfl, hw⟩ := hw
    refine gc_X11_52 (pc := 35) (As := [.ref a_5]) (rest := [.int x1]) C hCl (Nat.le_refl _) hw rfl rfl (Nat.le_of_ble_eq_true rfl) dX11_total_35 (fun v9 h_7 hp => ?_) (fun q_9 h_10 hw ht9 => ?_)
    rotate_left
    · exact gx_out C S0 (by rw [hTb]; decide) ht9 hw
    clear hw
    obtain ⟨r_8, rfl, hw⟩ := hp
    refine GK.at (p2 := 38) rfl ?_
    obtain ⟨hs, hw⟩ := hw
    refine gh_ckc (pc := 38) (r := r_8) C q643 (ck_GathersAllFaults_Value_ok hs) dX11_total_38 ?_
    obtain ⟨a_11, rfl, hw⟩ := hw
    refine gc_X11_57 (pc := 41) (As := []) (rest := [.int x1]) C hCl (Nat.le_refl _) hw rfl rfl (Nat.le_of_ble_eq_true rfl) dX11_total_41 (fun v9 h_12 hp => ?_) (fun q_14 h_15 hw ht9 => ?_)
    rotate_left
    · exact gx_out C S0 (by rw [hTb]; decide) ht9 hw
    clear hw
    obtain ⟨r_13, rfl, hw⟩ := hp
    refine GK.at (p2 := 44) rfl ?_
    refine gk_iadd (pc := 44) C.1 dX11_total_44 ?_
    obtain ⟨x_16, ex_16⟩ : ∃ z : Int32, z = x1 + r_13 := ⟨_, rfl⟩
    rw [← ex_16]
    replace hw := hw x_16 ex_16
    refine gk_istore_n (pc := 45) (lv' := [(1, Value.int x_16), (5, Value.int x_3), (0, Value.ref x0), (2, Value.ref a_2), (3, Value.int x3), (4, Value.int x4)]) C.1 dX11_total_45 rfl (by rw [hXn]; decide) (by first | rfl | simp [va_rf_S, va_rf_cat, cat_i, cat_a, cat_l, cat_f, fin4_0, fin4_1, fin4_2, fin4_3]) ?_
    obtain ⟨x_17, ex_17⟩ : ∃ z : Int32, z = x4 + 1 := ⟨_, rfl⟩
    replace hw := hw x_17 ex_17
    refine gk_iinc (pc := 46) (v := x_17) (lv' := [(4, Value.int x_17), (1, Value.int x_16), (5, Value.int x_3), (0, Value.ref x0), (2, Value.ref a_2), (3, Value.int x3)]) C.1 5 dX11_total_46 rfl (by rw [ex_17]; rfl) (by rw [hXn]; decide) (by first | rfl | simp [va_rf_S, va_rf_cat, cat_i, cat_a, cat_l, cat_f, fin4_0, fin4_1, fin4_2, fin4_3]) ?_
    refine gk_goto (pc := 49) (tgt := 13) C.1 dX11_total_49 (by decide) ?_
    refine GK.sub (lv' := [(0, .ref x0), (1, .int x_16), (2, va_rf (some a_2)), (3, .int x3), (4, .int x_17)]) [3, 1, 4, 5, 0] rfl ?_
    exact ih _ _ _ _ _ _ hw
def wb_X11_total (cl : CT) (lm : Nat × Nat) (Q : QT) (E : ET) (x0 : Nat) (h : HS) : Prop := (hT h x0 = 4) ∧ (∀ r_1 : Option Nat, r_1 = hR h 19 x0 → (∃ a_2 : Nat, r_1 = some a_2 ∧ (hT h a_2 = 101 ∧ (∀ x_3 : Int32, x_3 = nI (hN h a_2) → (∃ fu : Nat, wb_X11_total_13 cl lm Q E fu x0 0 (some a_2) x_3 0 h)))))
theorem wx_X11_total {l : Launch} (hst : l.stackTraces = false) {G : GG} {cl : CT} {lm : Nat × Nat} {Q : QT} {E : ET} {d2 : Nat} (hCl : CallsOK l G d2 cl ∧ hLm G lm ∧ 8 ≤ d2 ∧ LamsOK l G d2 cl) {x0 : Nat} {h : HS} (hw : wb_X11_total cl lm Q E x0 h) : HMet l G yX11_total (ws_ yX11_total cX11_total 6 ((Option.some Jvm.ClassFile.FieldType.int))) (d2 + 1) [.ref x0] h Q E := by
  refine gh_met (own := RX11) rfl (by decide +kernel) hst (by simp only [lg_sl_i, lg_sl_r, lg_sl_a, lg_sl_2, lg_sl_f, lg_sl_0]; decide) (fun X hXl hXn hret hnm hTb h0 eh C S0 => ?_)
  subst hXl
  have hlm := hCl.2.1
  have hd8 := hCl.2.2.1
  have hd2 : 1 ≤ d2 := Nat.le_trans (by decide) hd8
  have hLa := hCl.2.2.2
  have hd1 : 1 ≤ d2 + 1 := Nat.le_add_left _ _
  have hC9 := hCl
  replace hCl := hCl.1
  have hini : True := trivial
  unfold wb_X11_total at hw
  refine GK.sub (lv' := [(0, .ref x0)]) [0] (by simp only [lv_args_i, lv_args_r, lv_args_a, lv_args_l, lv_args_f, lv_args_0]; rfl) ?_
  refine gk_iconst (pc := 0) (v := 0) C.1 dX11_total_0 (by decide) ?_
  refine gk_istore_n (pc := 1) (lv' := [(1, Value.int 0), (0, Value.ref x0)]) C.1 dX11_total_1 rfl (by rw [hXn]; decide) (by first | rfl | simp [va_rf_S, va_rf_cat, cat_i, cat_a, cat_l, cat_f, fin4_0, fin4_1, fin4_2, fin4_3]) ?_
  refine gk_aload_n (pc := 2) C.1 1 dX11_total_2 rfl rfl ?_
  obtain ⟨ht, hw⟩ := hw
  refine gf_X11_19 (pc := 3) C ht dX11_total_3 (fun r_1 er_1 => ?_)
  replace hw := hw r_1 er_1
  refine gk_qstore_n (pc := 6) (lv' := [(2, va_rf r_1), (1, Value.int 0), (0, Value.ref x0)]) C.1 dX11_total_6 rfl (by rw [hXn]; decide) (by first | rfl | simp [va_rf_S, va_rf_cat, cat_i, cat_a, cat_l, cat_f, fin4_0, fin4_1, fin4_2, fin4_3]) ?_
  refine gk_qload_n (pc := 7) C.1 0 dX11_total_7 rfl rfl ?_
  obtain ⟨a_2, rfl, hw⟩ := hw
  obtain ⟨ht, hw⟩ := hw
  refine gh_len (pc := 8) (t0 := 0) (ty := tyA 101) C ht (by decide) rfl dX11_total_8 ?_
  obtain ⟨x_3, ex_3⟩ : ∃ z : Int32, z = nI (hN h a_2) := ⟨_, rfl⟩
  rw [← ex_3]
  replace hw := hw x_3 ex_3
  refine gk_istore_n (pc := 9) (lv' := [(3, Value.int x_3), (2, Value.ref a_2), (1, Value.int 0), (0, Value.ref x0)]) C.1 dX11_total_9 rfl (by rw [hXn]; decide) (by first | rfl | simp [va_rf_S, va_rf_cat, cat_i, cat_a, cat_l, cat_f, fin4_0, fin4_1, fin4_2, fin4_3]) ?_
  refine gk_iconst (pc := 10) (v := 0) C.1 dX11_total_10 (by decide) ?_
  refine gk_istore (pc := 11) (lv' := [(4, Value.int 0), (3, Value.int x_3), (2, Value.ref a_2), (1, Value.int 0), (0, Value.ref x0)]) C.1 dX11_total_11 (by rw [hXn]; decide) (by first | rfl | simp [va_rf_S, va_rf_cat, cat_i, cat_a, cat_l, cat_f, fin4_0, fin4_1, fin4_2, fin4_3]) ?_
  refine GK.sub (lv' := [(0, .ref x0), (1, .int 0), (2, va_rf (some a_2)), (3, .int x_3), (4, .int 0)]) [4, 3, 2, 1, 0] rfl ?_
  obtain ⟨n9, hw⟩ := hw
  exact wk_X11_total_13 C hC9 S0 hret hXn hini hTb  n9 _ _ _ _ _ _ hw
/-! 210: GathersAllFaults$Rec.with(ILGathersAllFaults$Value;)LGathersAllFaults$Value; -/
def wb_X11_with_80 (cl : CT) (lm : Nat × Nat) (Q : QT) (E : ET) (J22 : Nat → Int32 → Option Nat → Nat → Option Nat → Int32 → Int32 → HS → Prop) (x0 : Nat) (x1 : Int32) (x2 : Option Nat) (x3 : Nat) (x4 : Option Nat) (x5 : Int32) (x6 : Int32) (h : HS) : Prop := ∀ x_1 : Int32, x_1 = x6 + 1 → (J22 x0 x1 x2 x3 x4 x5 x_1 h)
theorem wk_X11_with_80 {X : Ev} {G : GG} {cl : CT} {lm : Nat × Nat} {Q : QT} {E : ET} {h0 : HS} {d2 : Nat} {J22 : Nat → Int32 → Option Nat → Nat → Option Nat → Int32 → Int32 → HS → Prop} (C : HC X G RX11 cX11_with (d2 + 1)) (hCl : CallsOK (ev_l X) G d2 cl ∧ hLm G lm ∧ 8 ≤ d2 ∧ LamsOK (ev_l X) G d2 cl) (S0 : HS0 X h0) (hret : (ev_h X).sig.returnType = (Option.some (Jvm.ClassFile.FieldType.object "GathersAllFaults$Value"))) (hXn : ev_n X = 9) (hini : True) (hTb : (ev_c X).exceptionTable.toList = []) (hJ22 : ∀ (x0 : Nat) (x1 : Int32) (x2 : Option Nat) (x3 : Nat) (x4 : Option Nat) (x5 : Int32) (x6 : Int32) (h : HS), J22 x0 x1 x2 x3 x4 x5 x6 h → GH X G h (hQ X G h0 Q E) 22 [(0, .ref x0), (1, .int x1), (2, va_rf x2), (3, .ref x3), (4, va_rf x4), (5, .int x5), (6, .int x6)] []) : ∀ (x0 : Nat) (x1 : Int32) (x2 : Option Nat) (x3 : Nat) (x4 : Option Nat) (x5 : Int32) (x6 : Int32) (h : HS), wb_X11_with_80 cl lm Q E J22 x0 x1 x2 x3 x4 x5 x6 h → GH X G h (hQ X G h0 Q E) 80 [(0, .ref x0), (1, .int x1), (2, va_rf x2), (3, .ref x3), (4, va_rf x4), (5, .int x5), (6, .int x6)] [] := by
  have hlm := hCl.2.1
  have hd8 := hCl.2.2.1
  have hd2 : 1 ≤ d2 := Nat.le_trans (by decide) hd8
  have hLa := hCl.2.2.2
  have hd1 : 1 ≤ d2 + 1 := Nat.le_add_left _ _
  have hC9 := hCl
  replace hCl := hCl.1
  intro x0 x1 x2 x3 x4 x5 x6 h hw
  unfold wb_X11_with_80 at hw
  obtain ⟨x_1, ex_1⟩ : ∃ z : Int32, z = x6 + 1 := ⟨_, rfl⟩
  replace hw := hw x_1 ex_1
  refine gk_iinc (pc := 80) (v := x_1) (lv' := [(6, Value.int x_1), (0, Value.ref x0), (1, Value.int x1), (2, va_rf x2), (3, Value.ref x3), (4, va_rf x4), (5, Value.int x5)]) C.1 6 dX11_with_80 rfl (by rw [ex_1]; rfl) (by rw [hXn]; decide) (by first | rfl | simp [va_rf_S, va_rf_cat, cat_i, cat_a, cat_l, cat_f, fin4_0, fin4_1, fin4_2, fin4_3]) ?_
  refine gk_goto (pc := 83) (tgt := 22) C.1 dX11_with_83 (by decide) ?_
  refine GK.sub (lv' := [(0, .ref x0), (1, .int x1), (2, va_rf x2), (3, .ref x3), (4, va_rf x4), (5, .int x5), (6, .int x_1)]) [1, 2, 3, 4, 5, 6, 0] rfl ?_
  exact hJ22 _ _ _ _ _ _ _ _ hw
def wb_X11_with_61 (cl : CT) (lm : Nat × Nat) (Q : QT) (E : ET) (J22 : Nat → Int32 → Option Nat → Nat → Option Nat → Int32 → Int32 → HS → Prop) (x0 : Nat) (x1 : Int32) (x2 : Option Nat) (x3 : Nat) (x4 : Option Nat) (x5 : Int32) (x6 : Int32) (x7 : Int32) (s0 : Option Nat) (h : HS) : Prop := (s0 = none → (wb_X11_with_80 cl lm Q E J22 x0 x1 x2 x3 x4 x5 x6 h)) ∧ (∀ a_2 : Nat, s0 = some a_2 → (¬ x7 < (-128) ∧ (¬ 127 < x7 ∧ (∀ a_3 : Nat, hT h a_3 = 300 → hI h fINT a_3 = x7 → (dp_LinkedHashMap_put cl x3 [.ref a_3, .ref a_2] h (gR (fun r_5 h_4 => wb_X11_with_80 cl lm Q E J22 x0 x1 x2 x3 x4 x5 x6 h_4)) E)))))
theorem wk_X11_with_61 {X : Ev} {G : GG} {cl : CT} {lm : Nat × Nat} {Q : QT} {E : ET} {h0 : HS} {d2 : Nat} {J22 : Nat → Int32 → Option Nat → Nat → Option Nat → Int32 → Int32 → HS → Prop} (C : HC X G RX11 cX11_with (d2 + 1)) (hCl : CallsOK (ev_l X) G d2 cl ∧ hLm G lm ∧ 8 ≤ d2 ∧ LamsOK (ev_l X) G d2 cl) (S0 : HS0 X h0) (hret : (ev_h X).sig.returnType = (Option.some (Jvm.ClassFile.FieldType.object "GathersAllFaults$Value"))) (hXn : ev_n X = 9) (hini : True) (hTb : (ev_c X).exceptionTable.toList = []) (hJ22 : ∀ (x0 : Nat) (x1 : Int32) (x2 : Option Nat) (x3 : Nat) (x4 : Option Nat) (x5 : Int32) (x6 : Int32) (h : HS), J22 x0 x1 x2 x3 x4 x5 x6 h → GH X G h (hQ X G h0 Q E) 22 [(0, .ref x0), (1, .int x1), (2, va_rf x2), (3, .ref x3), (4, va_rf x4), (5, .int x5), (6, .int x6)] []) : ∀ (x0 : Nat) (x1 : Int32) (x2 : Option Nat) (x3 : Nat) (x4 : Option Nat) (x5 : Int32) (x6 : Int32) (x7 : Int32) (s0 : Option Nat) (h : HS), wb_X11_with_61 cl lm Q E J22 x0 x1 x2 x3 x4 x5 x6 x7 s0 h → GH X G h (hQ X G h0 Q E) 61 [(0, .ref x0), (1, .int x1), (2, va_rf x2), (3, .ref x3), (4, va_rf x4), (5, .int x5), (6, .int x6), (7, .int x7)] [va_rf s0] := by
  have hlm := hCl.2.1
  have hd8 := hCl.2.2.1
  have hd2 : 1 ≤ d2 := Nat.le_trans (by decide) hd8
  have hLa := hCl.2.2.2
  have hd1 : 1 ≤ d2 + 1 := Nat.le_add_left _ _
  have hC9 := hCl
  replace hCl := hCl.1
  intro x0 x1 x2 x3 x4 x5 x6 x7 s0 h hw
  unfold wb_X11_with_61 at hw
  refine gk_qstore (pc := 61) (lv' := [(8, va_rf s0), (0, Value.ref x0), (1, Value.int x1), (2, va_rf x2), (3, Value.ref x3), (4, va_rf x4), (5, Value.int x5), (6, Value.int x6), (7, Value.int x7)]) C.1 dX11_with_61 (by rw [hXn]; decide) (by first | rfl | simp [va_rf_S, va_rf_cat, cat_i, cat_a, cat_l, cat_f, fin4_0, fin4_1, fin4_2, fin4_3]) ?_
  refine gk_qload (pc := 63) C.1 0 dX11_with_63 rfl ?_
  refine gk_ifnull (pc := 65) (tgt := 80) C.1 dX11_with_65 (by decide) (fun c_1 => ?_) (fun c_1 => ?_)
  · replace hw := hw.1 c_1
    subst c_1
    refine GK.sub (lv' := [(0, .ref x0), (1, .int x1), (2, va_rf x2), (3, .ref x3), (4, va_rf x4), (5, .int x5), (6, .int x6)]) [1, 2, 3, 4, 5, 6, 7] rfl ?_
    exact wk_X11_with_80 C hC9 S0 hret hXn hini hTb hJ22 _ _ _ _ _ _ _ _ hw
  · obtain ⟨a_2, c_1⟩ := Option.ne_none_iff_exists'.mp c_1
    replace hw := hw.2 a_2 c_1
    subst c_1
    refine gk_aload_n (pc := 68) C.1 4 dX11_with_68 rfl rfl ?_
    refine gk_iload (pc := 69) C.1 8 dX11_with_69 rfl ?_
    obtain ⟨z1, z2, hw⟩ := hw
    refine gv_X11_48 (pc := 71) (rest := [.ref x3]) C hd2 z1 z2 (Nat.le_of_ble_eq_true rfl) dX11_with_71 (fun a_3 z3 z4 => ?_)
    replace hw := hw a_3 z3 z4
    refine gk_aload (pc := 74) C.1 0 dX11_with_74 rfl ?_
    refine gc_X11_61 (pc := 76) (As := [.ref a_3, .ref a_2]) (rest := []) C hCl (Nat.le_refl _) hw rfl rfl (Nat.le_of_ble_eq_true rfl) dX11_with_76 (fun v9 h_4 hp => ?_) (fun q_6 h_7 hw ht9 => ?_)
    rotate_left
    · exact gx_out C S0 (by rw [hTb]; decide) ht9 hw
    clear hw
    obtain ⟨r_5, rfl, hw⟩ := hp
    refine GK.at (p2 := 79) rfl ?_
    refine gk_pop (pc := 79) C.1 dX11_with_79 (va_rf_cat _) ?_
    refine GK.sub (lv' := [(0, .ref x0), (1, .int x1), (2, va_rf x2), (3, .ref x3), (4, va_rf x4), (5, .int x5), (6, .int x6)]) [1, 2, 3, 4, 5, 6, 7] rfl ?_
    exact wk_X11_with_80 C hC9 S0 hret hXn hini hTb hJ22 _ _ _ _ _ _ _ _ hw
def wb_X11_with_22 (cl : CT) (lm : Nat × Nat) (Q : QT) (E : ET) : Nat → Nat → Int32 → Option Nat → Nat → Option Nat → Int32 → Int32 → HS → Prop
  | 0 => fun _ _ _ _ _ _ _ _ => False
  | n + 1 => fun x0 x1 x2 x3 x4 x5 x6 h => ((x5 ≤ x6 → (hZ h + 1 ≤ lm.1 ∧ (hL h + 2 ≤ lm.2 ∧ (∀ (a_3 : Nat) (h_2 : HS), a_3 = hZ h → h_2 = hNew h 4 0 2 → (cl 203 (.ref a_3 :: [.ref x3]) h_2 (gV (fun h_4 => Q (some (va_rf (some a_3))) h_4)) E))))) ∧ (¬ x5 ≤ x6 → (∃ a_7 : Nat, x4 = some a_7 ∧ (hT h a_7 = 101 ∧ (vp_in x6 (hN h a_7) ∧ (∀ x_8 : Int32, x_8 = hA h a_7 x6.toNatClampNeg → (((¬ x_8 = x1 → ((hT h x0 = 4) ∧ (∀ r_10 : Option Nat, r_10 = hR h 18 x0 → (¬ x_8 < (-128) ∧ (¬ 127 < x_8 ∧ (∀ a_11 : Nat, hT h a_11 = 300 → hI h fINT a_11 = x_8 → (∃ a_12 : Nat, r_10 = some a_12 ∧ (dp_LinkedHashMap_get cl a_12 [.ref a_11] h (gR (fun r_14 h_13 => ck_GathersAllFaults_Value h_13 r_14 ∧ (wb_X11_with_61 cl lm Q E (fun yx0 yx1 yx2 yx3 yx4 yx5 yx6 yh => wb_X11_with_22 cl lm Q E n yx0 yx1 yx2 yx3 yx4 yx5 yx6 yh) x0 x1 x2 x3 (some a_7) x5 x6 x_8 r_14 h_13))) E)))))))) ∧ (x_8 = x1 → (wb_X11_with_61 cl lm Q E (fun yx0 yx1 yx2 yx3 yx4 yx5 yx6 yh => wb_X11_with_22 cl lm Q E n yx0 yx1 yx2 yx3 yx4 yx5 yx6 yh) x0 x1 x2 x3 (some a_7) x5 x6 x_8 x2 h))))))))))
theorem wk_X11_with_22 {X : Ev} {G : GG} {cl : CT} {lm : Nat × Nat} {Q : QT} {E : ET} {h0 : HS} {d2 : Nat} (C : HC X G RX11 cX11_with (d2 + 1)) (hCl : CallsOK (ev_l X) G d2 cl ∧ hLm G lm ∧ 8 ≤ d2 ∧ LamsOK (ev_l X) G d2 cl) (S0 : HS0 X h0) (hret : (ev_h X).sig.returnType = (Option.some (Jvm.ClassFile.FieldType.object "GathersAllFaults$Value"))) (hXn : ev_n X = 9) (hini : True) (hTb : (ev_c X).exceptionTable.toList = []) : ∀ (n : Nat) (x0 : Nat) (x1 : Int32) (x2 : Option Nat) (x3 : Nat) (x4 : Option Nat) (x5 : Int32) (x6 : Int32) (h : HS), wb_X11_with_22 cl lm Q E n x0 x1 x2 x3 x4 x5 x6 h → GH X G h (hQ X G h0 Q E) 22 [(0, .ref x0), (1, .int x1), (2, va_rf x2), (3, .ref x3), (4, va_rf x4), (5, .int x5), (6, .int x6)] [] := by
  have hlm := hCl.2.1
  have hd8 := hCl.2.2.1
  have hd2 : 1 ≤ d2 := Nat.le_trans (by decide) hd8
  have hLa := hCl.2.2.2
  have hd1 : 1 ≤ d2 + 1 := Nat.le_add_left _ _
  have hC9 := hCl
  replace hCl := hCl.1
  intro n
  induction n with
  | zero => intro x0 x1 x2 x3 x4 x5 x6 h hw; exact hw.elim
  | succ n ih =>
  intro x0 x1 x2 x3 x4 x5 x6 h hw
  unfold wb_X11_with_22 at hw
  refine gk_iload (pc := 22) C.1 6 dX11_with_22 rfl ?_
  refine gk_iload (pc := 24) C.1 5 dX11_with_24 rfl ?_
  refine gk_icmp_ge (pc := 26) (tgt := 86) C.1 dX11_with_26 (by decide) (fun c_1 => ?_) (fun c_1 => ?_)
  · replace hw := hw.1 c_1
    obtain ⟨hr1, hr2, hw⟩ := hw
    refine gn_X11_8 (pc := 86) C (hlm.1 ▸ hr1) (hlm.2 ▸ hr2) dX11_with_86 (fun h_2 eh_2 => ?_)
    obtain ⟨a_3, ea_3⟩ : ∃ z : Nat, z = hZ h := ⟨_, rfl⟩
    rw [← ea_3]
    replace hw := hw a_3 h_2 ea_3 eh_2
    refine gk_dup (pc := 89) C.1 dX11_with_89 rfl ?_
    refine gk_aload_n (pc := 90) C.1 3 dX11_with_90 rfl rfl ?_
    refine gc_X11_65 (pc := 91) (As := [.ref x3]) (rest := [.ref a_3]) C hCl (Nat.le_refl _) hw rfl rfl (Nat.le_of_ble_eq_true rfl) dX11_with_91 (fun v9 h_4 hp => ?_) (fun q_5 h_6 hw ht9 => ?_)
    rotate_left
    · exact gx_out C S0 (by rw [hTb]; decide) ht9 hw
    clear hw
    obtain ⟨rfl, hw⟩ := hp
    refine GK.at (p2 := 94) rfl ?_
    exact gh_aret (pc := 94) (r := (some a_3)) C S0 hret (Or.inl ⟨_, rfl⟩) dX11_with_94 hw
  · replace hw := hw.2 c_1
    refine gk_qload (pc := 29) C.1 4 dX11_with_29 rfl ?_
    refine gk_iload (pc := 31) C.1 6 dX11_with_31 rfl ?_
    obtain ⟨a_7, rfl, hw⟩ := hw
    obtain ⟨ht, hi, hw⟩ := hw
    refine gh_iald (pc := 33) C ht hi dX11_with_33 ?_
    obtain ⟨x_8, ex_8⟩ : ∃ z : Int32, z = hA h a_7 x6.toNatClampNeg := ⟨_, rfl⟩
    rw [← ex_8]
    replace hw := hw x_8 ex_8
    refine gk_istore (pc := 34) (lv' := [(7, Value.int x_8), (0, Value.ref x0), (1, Value.int x1), (2, va_rf x2), (3, Value.ref x3), (4, Value.ref a_7), (5, Value.int x5), (6, Value.int x6)]) C.1 dX11_with_34 (by rw [hXn]; decide) (by first | rfl | simp [va_rf_S, va_rf_cat, cat_i, cat_a, cat_l, cat_f, fin4_0, fin4_1, fin4_2, fin4_3]) ?_
    refine gk_iload (pc := 36) C.1 0 dX11_with_36 rfl ?_
    refine gk_iload_n (pc := 38) C.1 2 dX11_with_38 rfl rfl ?_
    refine gk_icmp_ne (pc := 39) (tgt := 46) C.1 dX11_with_39 (by decide) (fun c_9 => ?_) (fun c_9 => ?_)
    · replace hw := hw.1 c_9
      refine gk_aload_n (pc := 46) C.1 1 dX11_with_46 rfl rfl ?_
      obtain ⟨ht, hw⟩ := hw
      refine gf_X11_7 (pc := 47) C ht dX11_with_47 (fun r_10 er_10 => ?_)
      replace hw := hw r_10 er_10
      refine gk_iload (pc := 50) C.1 0 dX11_with_50 rfl ?_
      obtain ⟨z1, z2, hw⟩ := hw
      refine gv_X11_48 (pc := 52) (rest := [va_rf r_10]) C hd2 z1 z2 (by simp [va_rf_S, va_rf_cat, cat_i, cat_a, cat_l, cat_f, fin4_0, fin4_1, fin4_2, fin4_3]) dX11_with_52 (fun a_11 z3 z4 => ?_)
      replace hw := hw a_11 z3 z4
      obtain ⟨a_12, rfl, hw⟩ := hw
      refine gc_X11_52 (pc := 55) (As := [.ref a_11]) (rest := []) C hCl (Nat.le_refl _) hw rfl rfl (Nat.le_of_ble_eq_true rfl) dX11_with_55 (fun v9 h_13 hp => ?_) (fun q_15 h_16 hw ht9 => ?_)
      rotate_left
      · exact gx_out C S0 (by rw [hTb]; decide) ht9 hw
      clear hw
      obtain ⟨r_14, rfl, hw⟩ := hp
      refine GK.at (p2 := 58) rfl ?_
      obtain ⟨hs, hw⟩ := hw
      refine gh_ckc (pc := 58) (r := r_14) C q643 (ck_GathersAllFaults_Value_ok hs) dX11_with_58 ?_
      refine GK.sub (lv' := [(0, .ref x0), (1, .int x1), (2, va_rf x2), (3, .ref x3), (4, va_rf (some a_7)), (5, .int x5), (6, .int x6), (7, .int x_8)]) [1, 2, 3, 4, 5, 6, 7, 0] rfl ?_
      exact wk_X11_with_61 C hC9 S0 hret hXn hini hTb ih _ _ _ _ _ _ _ _ _ _ hw
    · replace hw := hw.2 c_9
      refine gk_qload_n (pc := 42) C.1 3 dX11_with_42 rfl rfl ?_
      refine gk_goto (pc := 43) (tgt := 61) C.1 dX11_with_43 (by decide) ?_
      refine GK.sub (lv' := [(0, .ref x0), (1, .int x1), (2, va_rf x2), (3, .ref x3), (4, va_rf (some a_7)), (5, .int x5), (6, .int x6), (7, .int x_8)]) [1, 2, 3, 4, 5, 6, 7, 0] rfl ?_
      exact wk_X11_with_61 C hC9 S0 hret hXn hini hTb ih _ _ _ _ _ _ _ _ _ _ hw
def wb_X11_with (cl : CT) (lm : Nat × Nat) (Q : QT) (E : ET) (x0 : Nat) (x1 : Int32) (x2 : Option Nat) (h : HS) : Prop := hZ h + 1 ≤ lm.1 ∧ (hL h + 12 ≤ lm.2 ∧ (∀ (a_2 : Nat) (h_1 : HS), a_2 = hZ h → h_1 = hNew h 20 0 12 → (cl 17 (.ref a_2 :: []) h_1 (gV (fun h_3 => (hT h_3 x0 = 4) ∧ (∀ r_6 : Option Nat, r_6 = hR h_3 19 x0 → (∃ a_7 : Nat, r_6 = some a_7 ∧ (hT h_3 a_7 = 101 ∧ (∀ x_8 : Int32, x_8 = nI (hN h_3 a_7) → (∃ fu : Nat, wb_X11_with_22 cl lm Q E fu x0 x1 x2 a_2 (some a_7) x_8 0 h_3))))))) E)))
theorem wx_X11_with {l : Launch} (hst : l.stackTraces = false) {G : GG} {cl : CT} {lm : Nat × Nat} {Q : QT} {E : ET} {d2 : Nat} (hCl : CallsOK l G d2 cl ∧ hLm G lm ∧ 8 ≤ d2 ∧ LamsOK l G d2 cl) {x0 : Nat} {x1 : Int32} {x2 : Option Nat} {h : HS} (hw : wb_X11_with cl lm Q E x0 x1 x2 h) : HMet l G yX11_with (ws_ yX11_with cX11_with 9 ((Option.some (Jvm.ClassFile.FieldType.object "GathersAllFaults$Value")))) (d2 + 1) [.ref x0, .int x1, va_rf x2] h Q E := by
  refine gh_met (own := RX11) rfl (by decide +kernel) hst (by simp only [lg_sl_i, lg_sl_r, lg_sl_a, lg_sl_2, lg_sl_f, lg_sl_0]; decide) (fun X hXl hXn hret hnm hTb h0 eh C S0 => ?_)
  subst hXl
  have hlm := hCl.2.1
  have hd8 := hCl.2.2.1
  have hd2 : 1 ≤ d2 := Nat.le_trans (by decide) hd8
  have hLa := hCl.2.2.2
  have hd1 : 1 ≤ d2 + 1 := Nat.le_add_left _ _
  have hC9 := hCl
  replace hCl := hCl.1
  have hini : True := trivial
  unfold wb_X11_with at hw
  refine GK.sub (lv' := [(0, .ref x0), (1, .int x1), (2, va_rf x2)]) [0, 1, 2] (by simp only [lv_args_i, lv_args_r, lv_args_a, lv_args_l, lv_args_f, lv_args_0]; rfl) ?_
  obtain ⟨hr1, hr2, hw⟩ := hw
  refine gn_X11_14 (pc := 0) C (hlm.1 ▸ hr1) (hlm.2 ▸ hr2) dX11_with_0 (fun h_1 eh_1 => ?_)
  obtain ⟨a_2, ea_2⟩ : ∃ z : Nat, z = hZ h := ⟨_, rfl⟩
  rw [← ea_2]
  replace hw := hw a_2 h_1 ea_2 eh_1
  refine gk_dup (pc := 3) C.1 dX11_with_3 rfl ?_
  refine gc_X11_60 (pc := 4) (As := []) (rest := [.ref a_2]) C hCl (Nat.le_refl _) hw rfl rfl (Nat.le_of_ble_eq_true rfl) dX11_with_4 (fun v9 h_3 hp => ?_) (fun q_4 h_5 hw ht9 => ?_)
  rotate_left
  · exact gx_out C S0 (by rw [hTb]; decide) ht9 hw
  clear hw
  obtain ⟨rfl, hw⟩ := hp
  refine GK.at (p2 := 7) rfl ?_
  refine gk_astore_n (pc := 7) (lv' := [(3, Value.ref a_2), (0, Value.ref x0), (1, Value.int x1), (2, va_rf x2)]) C.1 dX11_with_7 rfl (by rw [hXn]; decide) (by first | rfl | simp [va_rf_S, va_rf_cat, cat_i, cat_a, cat_l, cat_f, fin4_0, fin4_1, fin4_2, fin4_3]) ?_
  refine gk_aload_n (pc := 8) C.1 1 dX11_with_8 rfl rfl ?_
  obtain ⟨ht, hw⟩ := hw
  refine gf_X11_19 (pc := 9) C ht dX11_with_9 (fun r_6 er_6 => ?_)
  replace hw := hw r_6 er_6
  refine gk_qstore (pc := 12) (lv' := [(4, va_rf r_6), (3, Value.ref a_2), (0, Value.ref x0), (1, Value.int x1), (2, va_rf x2)]) C.1 dX11_with_12 (by rw [hXn]; decide) (by first | rfl | simp [va_rf_S, va_rf_cat, cat_i, cat_a, cat_l, cat_f, fin4_0, fin4_1, fin4_2, fin4_3]) ?_
  refine gk_qload (pc := 14) C.1 0 dX11_with_14 rfl ?_
  obtain ⟨a_7, rfl, hw⟩ := hw
  obtain ⟨ht, hw⟩ := hw
  refine gh_len (pc := 16) (t0 := 0) (ty := tyA 101) C ht (by decide) rfl dX11_with_16 ?_
  obtain ⟨x_8, ex_8⟩ : ∃ z : Int32, z = nI (hN h_3 a_7) := ⟨_, rfl⟩
  rw [← ex_8]
  replace hw := hw x_8 ex_8
  refine gk_istore (pc := 17) (lv' := [(5, Value.int x_8), (4, Value.ref a_7), (3, Value.ref a_2), (0, Value.ref x0), (1, Value.int x1), (2, va_rf x2)]) C.1 dX11_with_17 (by rw [hXn]; decide) (by first | rfl | simp [va_rf_S, va_rf_cat, cat_i, cat_a, cat_l, cat_f, fin4_0, fin4_1, fin4_2, fin4_3]) ?_
  refine gk_iconst (pc := 19) (v := 0) C.1 dX11_with_19 (by decide) ?_
  refine gk_istore (pc := 20) (lv' := [(6, Value.int 0), (5, Value.int x_8), (4, Value.ref a_7), (3, Value.ref a_2), (0, Value.ref x0), (1, Value.int x1), (2, va_rf x2)]) C.1 dX11_with_20 (by rw [hXn]; decide) (by first | rfl | simp [va_rf_S, va_rf_cat, cat_i, cat_a, cat_l, cat_f, fin4_0, fin4_1, fin4_2, fin4_3]) ?_
  refine GK.sub (lv' := [(0, .ref x0), (1, .int x1), (2, va_rf x2), (3, .ref a_2), (4, va_rf (some a_7)), (5, .int x_8), (6, .int 0)]) [4, 5, 6, 3, 2, 1, 0] rfl ?_
  obtain ⟨n9, hw⟩ := hw
  exact wk_X11_with_22 C hC9 S0 hret hXn hini hTb  n9 _ _ _ _ _ _ _ _ hw
/-! 211: GathersAllFaults$Lst.equals(Ljava/lang/Object;)Z -/
def wb_X12_equals_29 (cl : CT) (lm : Nat × Nat) (Q : QT) (E : ET) : Nat → Nat → Option Nat → Int32 → HS → Prop
  | 0 => fun _ _ _ _ => False
  | n + 1 => fun x0 x2 x3 h => (hT h x0 = 5) ∧ (∀ r_1 : Option Nat, r_1 = hR h 20 x0 → (∃ a_2 : Nat, r_1 = some a_2 ∧ (hT h a_2 = 114 ∧ ((((nI (hN h a_2)) ≤ x3 → (Q (some (.int 1)) h)) ∧ (¬ (nI (hN h a_2)) ≤ x3 → ((hT h x0 = 5) ∧ (∀ r_4 : Option Nat, r_4 = hR h 20 x0 → (∃ a_5 : Nat, r_4 = some a_5 ∧ (hT h a_5 = 114 ∧ (vp_in x3 (hN h a_5) ∧ (∀ r_6 : Option Nat, r_6 = hB h a_5 x3.toNatClampNeg → (∃ a_7 : Nat, x2 = some a_7 ∧ ((hT h a_7 = 5) ∧ (∀ r_8 : Option Nat, r_8 = hR h 20 a_7 → (∃ a_9 : Nat, r_8 = some a_9 ∧ (hT h a_9 = 114 ∧ (vp_in x3 (hN h a_9) ∧ (∀ r_10 : Option Nat, r_10 = hB h a_9 x3.toNatClampNeg → (∃ a_11 : Nat, r_6 = some a_11 ∧ (dp_Value_equals cl a_11 [va_rf r_10] h (gI (fun r_13 h_12 => ((¬ r_13 = 0 → (∀ x_17 : Int32, x_17 = x3 + 1 → (wb_X12_equals_29 cl lm Q E n x0 (some a_7) x_17 h_12))) ∧ (r_13 = 0 → (Q (some (.int 0)) h_12))))) E)))))))))))))))))))))
theorem wk_X12_equals_29 {X : Ev} {G : GG} {cl : CT} {lm : Nat × Nat} {Q : QT} {E : ET} {h0 : HS} {d2 : Nat} (C : HC X G RX12 cX12_equals (d2 + 1)) (hCl : CallsOK (ev_l X) G d2 cl ∧ hLm G lm ∧ 8 ≤ d2 ∧ LamsOK (ev_l X) G d2 cl) (S0 : HS0 X h0) (hret : (ev_h X).sig.returnType = (Option.some Jvm.ClassFile.FieldType.boolean)) (hXn : ev_n X = 4) (hini : True) (hTb : (ev_c X).exceptionTable.toList = []) : ∀ (n : Nat) (x0 : Nat) (x2 : Option Nat) (x3 : Int32) (h : HS), wb_X12_equals_29 cl lm Q E n x0 x2 x3 h → GH X G h (hQ X G h0 Q E) 29 [(0, .ref x0), (2, va_rf x2), (3, .int x3)] [] := by
  have hlm := hCl.2.1
  have hd8 := hCl.2.2.1
  have hd2 : 1 ≤ d2 := Nat.le_trans (by decide) hd8
  have hLa := hCl.2.2.2
  have hd1 : 1 ≤ d2 + 1 := Nat.le_add_left _ _
  have hC9 := hCl
  replace hCl := hCl.1
  intro n
  induction n with
  | zero => intro x0 x2 x3 h hw; exact hw.elim
  | succ n ih =>
  intro x0 x2 x3 h hw
  unfold wb_X12_equals_29 at hw
  refine gk_iload_n (pc := 29) C.1 2 dX12_equals_29 rfl rfl ?_
  refine gk_aload_n (pc := 30) C.1 0 dX12_equals_30 rfl rfl ?_
  obtain ⟨ht, hw⟩ := hw
  refine gf_X12_9 (pc := 31) C ht dX12_equals_31 (fun r_1 er_1 => ?_)
  replace hw := hw r_1 er_1
  obtain ⟨a_2, rfl, hw⟩ := hw
  obtain ⟨ht, hw⟩ := hw
  refine gh_len (pc := 34) (t0 := 6) (ty := tyA 114) C ht (by decide) rfl dX12_equals_34 ?_
  refine gk_icmp_ge (pc := 35) (tgt := 64) C.1 dX12_equals_35 (by decide) (fun c_3 => ?_) (fun c_3 => ?_)
  · replace hw := hw.1 c_3
    refine gk_iconst (pc := 64) (v := 1) C.1 dX12_equals_64 (by decide) ?_
    exact gh_zret (pc := 65) C S0 hret dX12_equals_65 bz1 hw
  · replace hw := hw.2 c_3
    refine gk_aload_n (pc := 38) C.1 0 dX12_equals_38 rfl rfl ?_
    obtain ⟨ht, hw⟩ := hw
    refine gf_X12_9 (pc := 39) C ht dX12_equals_39 (fun r_4 er_4 => ?_)
    replace hw := hw r_4 er_4
    refine gk_iload_n (pc := 42) C.1 2 dX12_equals_42 rfl rfl ?_
    obtain ⟨a_5, rfl, hw⟩ := hw
    obtain ⟨ht, hi, hw⟩ := hw
    refine gh_aald (pc := 43) (t0 := 6) (E := "GathersAllFaults$Value") C ht (by decide) (by decide) rfl hi dX12_equals_43 ?_
    obtain ⟨r_6, er_6⟩ : ∃ z : Option Nat, z = hB h a_5 x3.toNatClampNeg := ⟨_, rfl⟩
    rw [← er_6]
    replace hw := hw r_6 er_6
    refine gk_qload_n (pc := 44) C.1 1 dX12_equals_44 rfl rfl ?_
    obtain ⟨a_7, rfl, hw⟩ := hw
    obtain ⟨ht, hw⟩ := hw
    refine gf_X12_9 (pc := 45) C ht dX12_equals_45 (fun r_8 er_8 => ?_)
    replace hw := hw r_8 er_8
    refine gk_iload_n (pc := 48) C.1 2 dX12_equals_48 rfl rfl ?_
    obtain ⟨a_9, rfl, hw⟩ := hw
    obtain ⟨ht, hi, hw⟩ := hw
    refine gh_aald (pc := 49) (t0 := 6) (E := "GathersAllFaults$Value") C ht (by decide) (by decide) rfl hi dX12_equals_49 ?_
    obtain ⟨r_10, er_10⟩ : ∃ z : Option Nat, z = hB h a_9 x3.toNatClampNeg := ⟨_, rfl⟩
    rw [← er_10]
    replace hw := hw r_10 er_10
    obtain ⟨a_11, rfl, hw⟩ := hw
    refine gc_X12_15 (pc := 50) (As := [va_rf r_10]) (rest := []) C hCl (Nat.le_refl _) hw rfl rfl (Nat.le_of_ble_eq_true rfl) dX12_equals_50 (fun v9 h_12 hp => ?_) (fun q_14 h_15 hw ht9 => ?_)
    rotate_left
    · exact gx_out C S0 (by rw [hTb]; decide) ht9 hw
    clear hw
    obtain ⟨r_13, rfl, hw⟩ := hp
    refine GK.at (p2 := 53) rfl ?_
    refine gk_if_ne (pc := 53) (tgt := 58) C.1 dX12_equals_53 (by decide) (fun c_16 => ?_) (fun c_16 => ?_)
    · replace hw := hw.1 c_16
      obtain ⟨x_17, ex_17⟩ : ∃ z : Int32, z = x3 + 1 := ⟨_, rfl⟩
      replace hw := hw x_17 ex_17
      refine gk_iinc (pc := 58) (v := x_17) (lv' := [(3, Value.int x_17), (0, Value.ref x0), (2, Value.ref a_7)]) C.1 2 dX12_equals_58 rfl (by rw [ex_17]; rfl) (by rw [hXn]; decide) (by first | rfl | simp [va_rf_S, va_rf_cat, cat_i, cat_a, cat_l, cat_f, fin4_0, fin4_1, fin4_2, fin4_3]) ?_
      refine gk_goto (pc := 61) (tgt := 29) C.1 dX12_equals_61 (by decide) ?_
      refine GK.sub (lv' := [(0, .ref x0), (2, va_rf (some a_7)), (3, .int x_17)]) [1, 2, 0] rfl ?_
      exact ih _ _ _ _ hw
    · replace hw := hw.2 c_16
      refine gk_iconst (pc := 56) (v := 0) C.1 dX12_equals_56 (by decide) ?_
      exact gh_zret (pc := 57) C S0 hret dX12_equals_57 bz0 hw
def wb_X12_equals (cl : CT) (lm : Nat × Nat) (Q : QT) (E : ET) (x0 : Nat) (x1 : Option Nat) (h : HS) : Prop := (∃ a_1 : Nat, x1 = some a_1 ∧ ((hT h a_1 = 5) ∧ (ck_GathersAllFaults_Lst h (some a_1) ∧ ((hT h a_1 = 5) ∧ (∀ r_2 : Option Nat, r_2 = hR h 20 a_1 → (∃ a_3 : Nat, r_2 = some a_3 ∧ (hT h a_3 = 114 ∧ ((hT h x0 = 5) ∧ (∀ r_4 : Option Nat, r_4 = hR h 20 x0 → (∃ a_5 : Nat, r_4 = some a_5 ∧ (hT h a_5 = 114 ∧ ((((nI (hN h a_3)) = (nI (hN h a_5)) → (∃ fu : Nat, wb_X12_equals_29 cl lm Q E fu x0 (some a_1) 0 h)) ∧ (¬ (nI (hN h a_3)) = (nI (hN h a_5)) → (Q (some (.int 0)) h))))))))))))))) ∨ ((∀ a_1 : Nat, x1 = some a_1 → (hT h a_1 = 2 ∨ hT h a_1 = 3 ∨ hT h a_1 = 4 ∨ hT h a_1 = 300)) ∧ (Q (some (.int 0)) h))
theorem wx_X12_equals {l : Launch} (hst : l.stackTraces = false) {G : GG} {cl : CT} {lm : Nat × Nat} {Q : QT} {E : ET} {d2 : Nat} (hCl : CallsOK l G d2 cl ∧ hLm G lm ∧ 8 ≤ d2 ∧ LamsOK l G d2 cl) {x0 : Nat} {x1 : Option Nat} {h : HS} (hw : wb_X12_equals cl lm Q E x0 x1 h) : HMet l G yX12_equals (ws_ yX12_equals cX12_equals 4 ((Option.some Jvm.ClassFile.FieldType.boolean))) (d2 + 1) [.ref x0, va_rf x1] h Q E := by
  refine gh_met (own := RX12) rfl (by decide +kernel) hst (by simp only [lg_sl_i, lg_sl_r, lg_sl_a, lg_sl_2, lg_sl_f, lg_sl_0]; decide) (fun X hXl hXn hret hnm hTb h0 eh C S0 => ?_)
  subst hXl
  have hlm := hCl.2.1
  have hd8 := hCl.2.2.1
  have hd2 : 1 ≤ d2 := Nat.le_trans (by decide) hd8
  have hLa := hCl.2.2.2
  have hd1 : 1 ≤ d2 + 1 := Nat.le_add_left _ _
  have hC9 := hCl
  replace hCl := hCl.1
  have hini : True := trivial
  unfold wb_X12_equals at hw
  refine GK.sub (lv' := [(0, .ref x0), (1, va_rf x1)]) [0, 1] (by simp only [lv_args_i, lv_args_r, lv_args_a, lv_args_l, lv_args_f, lv_args_0]; rfl) ?_
  refine gk_qload_n (pc := 0) C.1 1 dX12_equals_0 rfl rfl ?_
  rcases hw with ⟨a_1, rfl, hs, hw⟩ | ⟨hs, hw⟩
  · skip
    refine gi_X12_10_y (pc := 1) C hs dX12_equals_1 ?_
    refine gk_if_eq (pc := 4) (tgt := 25) C.1 dX12_equals_4 (by decide) (fun c9 => ?_) (fun c9 => ?_)
    · exact absurd c9 (by decide)
    refine gk_aload_n (pc := 7) C.1 1 dX12_equals_7 rfl rfl ?_
    obtain ⟨hs, hw⟩ := hw
    refine gh_ckc (pc := 8) (r := (some a_1)) C q678 (ck_GathersAllFaults_Lst_ok hs) dX12_equals_8 ?_
    refine gk_astore_n (pc := 11) (lv' := [(2, Value.ref a_1), (0, Value.ref x0), (1, Value.ref a_1)]) C.1 dX12_equals_11 rfl (by rw [hXn]; decide) (by first | rfl | simp [va_rf_S, va_rf_cat, cat_i, cat_a, cat_l, cat_f, fin4_0, fin4_1, fin4_2, fin4_3]) ?_
    refine gk_aload_n (pc := 12) C.1 0 dX12_equals_12 rfl rfl ?_
    obtain ⟨ht, hw⟩ := hw
    refine gf_X12_9 (pc := 13) C ht dX12_equals_13 (fun r_2 er_2 => ?_)
    replace hw := hw r_2 er_2
    obtain ⟨a_3, rfl, hw⟩ := hw
    obtain ⟨ht, hw⟩ := hw
    refine gh_len (pc := 16) (t0 := 6) (ty := tyA 114) C ht (by decide) rfl dX12_equals_16 ?_
    refine gk_aload_n (pc := 17) C.1 1 dX12_equals_17 rfl rfl ?_
    obtain ⟨ht, hw⟩ := hw
    refine gf_X12_9 (pc := 18) C ht dX12_equals_18 (fun r_4 er_4 => ?_)
    replace hw := hw r_4 er_4
    obtain ⟨a_5, rfl, hw⟩ := hw
    obtain ⟨ht, hw⟩ := hw
    refine gh_len (pc := 21) (t0 := 6) (ty := tyA 114) C ht (by decide) rfl dX12_equals_21 ?_
    refine gk_icmp_eq (pc := 22) (tgt := 27) C.1 dX12_equals_22 (by decide) (fun c_6 => ?_) (fun c_6 => ?_)
    · replace hw := hw.1 c_6
      refine gk_iconst (pc := 27) (v := 0) C.1 dX12_equals_27 (by decide) ?_
      refine gk_istore_n (pc := 28) (lv' := [(3, Value.int 0), (2, Value.ref a_1), (0, Value.ref x0), (1, Value.ref a_1)]) C.1 dX12_equals_28 rfl (by rw [hXn]; decide) (by first | rfl | simp [va_rf_S, va_rf_cat, cat_i, cat_a, cat_l, cat_f, fin4_0, fin4_1, fin4_2, fin4_3]) ?_
      refine GK.sub (lv' := [(0, .ref x0), (2, va_rf (some a_1)), (3, .int 0)]) [2, 1, 0] rfl ?_
      obtain ⟨n9, hw⟩ := hw
      exact wk_X12_equals_29 C hC9 S0 hret hXn hini hTb  n9 _ _ _ _ hw
    · replace hw := hw.2 c_6
      refine gk_iconst (pc := 25) (v := 0) C.1 dX12_equals_25 (by decide) ?_
      exact gh_zret (pc := 26) C S0 hret dX12_equals_26 bz0 hw
  · refine gi_X12_10_n (pc := 1) (r := x1) C hs dX12_equals_1 ?_
    refine gk_if_eq (pc := 4) (tgt := 25) C.1 dX12_equals_4 (by decide) (fun c9 => ?_) (fun c9 => ?_)
    rotate_left
    · exact absurd rfl c9
    refine gk_iconst (pc := 25) (v := 0) C.1 dX12_equals_25 (by decide) ?_
    exact gh_zret (pc := 26) C S0 hret dX12_equals_26 bz0 hw
/-! 212: GathersAllFaults$Lst.hashCode()I -/
def wb_X12_hashCode_14 (cl : CT) (lm : Nat × Nat) (Q : QT) (E : ET) : Nat → Int32 → Option Nat → Int32 → Int32 → HS → Prop
  | 0 => fun _ _ _ _ _ => False
  | n + 1 => fun x1 x2 x3 x4 h => ((x3 ≤ x4 → (Q (some (.int x1)) h)) ∧ (¬ x3 ≤ x4 → (∃ a_2 : Nat, x2 = some a_2 ∧ (hT h a_2 = 114 ∧ (vp_in x4 (hN h a_2) ∧ (∀ r_3 : Option Nat, r_3 = hB h a_2 x4.toNatClampNeg → (∃ a_4 : Nat, r_3 = some a_4 ∧ (dp_Value_hashCode cl a_4 [] h (gI (fun r_6 h_5 => ∀ x_9 : Int32, x_9 = (31 * x1) + r_6 → (∀ x_10 : Int32, x_10 = x4 + 1 → (wb_X12_hashCode_14 cl lm Q E n x_9 (some a_2) x3 x_10 h_5)))) E))))))))
theorem wk_X12_hashCode_14 {X : Ev} {G : GG} {cl : CT} {lm : Nat × Nat} {Q : QT} {E : ET} {h0 : HS} {d2 : Nat} (C : HC X G RX12 cX12_hashCode (d2 + 1)) (hCl : CallsOK (ev_l X) G d2 cl ∧ hLm G lm ∧ 8 ≤ d2 ∧ LamsOK (ev_l X) G d2 cl) (S0 : HS0 X h0) (hret : (ev_h X).sig.returnType = (Option.some Jvm.ClassFile.FieldType.int)) (hXn : ev_n X = 6) (hini : True) (hTb : (ev_c X).exceptionTable.toList = []) : ∀ (n : Nat) (x1 : Int32) (x2 : Option Nat) (x3 : Int32) (x4 : Int32) (h : HS), wb_X12_hashCode_14 cl lm Q E n x1 x2 x3 x4 h → GH X G h (hQ X G h0 Q E) 14 [(1, .int x1), (2, va_rf x2), (3, .int x3), (4, .int x4)] [] := by
  have hlm := hCl.2.1
  have hd8 := hCl.2.2.1
  have hd2 : 1 ≤ d2 := Nat.le_trans (by decide) hd8
  have hLa := hCl.2.2.2
  have hd1 : 1 ≤ d2 + 1 := Nat.le_add_left _ _
  have hC9 := hCl
  replace hCl := hCl.1
  intro n
  induction n with
  | zero => intro x1 x2 x3 x4 h hw; exact hw.elim
  | succ n ih =>
  intro x1 x2 x3 x4 h hw
  unfold wb_X12_hashCode_14 at hw
  refine gk_iload (pc := 14) C.1 3 dX12_hashCode_14 rfl ?_
  refine gk_iload_n (pc := 16) C.1 2 dX12_hashCode_16 rfl rfl ?_
  refine gk_icmp_ge (pc := 17) (tgt := 43) C.1 dX12_hashCode_17 (by decide) (fun c_1 => ?_) (fun c_1 => ?_)
  · replace hw := hw.1 c_1
    refine gk_iload_n (pc := 43) C.1 0 dX12_hashCode_43 rfl rfl ?_
    exact gh_iret (pc := 44) C S0 hret dX12_hashCode_44 hw
  · replace hw := hw.2 c_1
    refine gk_qload_n (pc := 20) C.1 1 dX12_hashCode_20 rfl rfl ?_
    refine gk_iload (pc := 21) C.1 3 dX12_hashCode_21 rfl ?_
    obtain ⟨a_2, rfl, hw⟩ := hw
    obtain ⟨ht, hi, hw⟩ := hw
    refine gh_aald (pc := 23) (t0 := 6) (E := "GathersAllFaults$Value") C ht (by decide) (by decide) rfl hi dX12_hashCode_23 ?_
    obtain ⟨r_3, er_3⟩ : ∃ z : Option Nat, z = hB h a_2 x4.toNatClampNeg := ⟨_, rfl⟩
    rw [← er_3]
    replace hw := hw r_3 er_3
    refine gk_qstore (pc := 24) (lv' := [(5, va_rf r_3), (1, Value.int x1), (2, Value.ref a_2), (3, Value.int x3), (4, Value.int x4)]) C.1 dX12_hashCode_24 (by rw [hXn]; decide) (by first | rfl | simp [va_rf_S, va_rf_cat, cat_i, cat_a, cat_l, cat_f, fin4_0, fin4_1, fin4_2, fin4_3]) ?_
    refine gk_bipush (pc := 26) (v := 31) C.1 dX12_hashCode_26 (by decide) ?_
    refine gk_iload_n (pc := 28) C.1 1 dX12_hashCode_28 rfl rfl ?_
    refine gk_imul (pc := 29) C.1 dX12_hashCode_29 ?_
    refine gk_qload (pc := 30) C.1 0 dX12_hashCode_30 rfl ?_
    obtain ⟨a_4, rfl, hw⟩ := hw
    refine gc_X12_37 (pc := 32) (As := []) (rest := [.int (31 * x1)]) C hCl (Nat.le_refl _) hw rfl rfl (Nat.le_of_ble_eq_true rfl) dX12_hashCode_32 (fun v9 h_5 hp => ?_) (fun q_7 h_8 hw ht9 => ?_)
    rotate_left
    · exact gx_out C S0 (by rw [hTb]; decide) ht9 hw
    clear hw
    obtain ⟨r_6, rfl, hw⟩ := hp
    refine GK.at (p2 := 35) rfl ?_
    refine gk_iadd (pc := 35) C.1 dX12_hashCode_35 ?_
    obtain ⟨x_9, ex_9⟩ : ∃ z : Int32, z = (31 * x1) + r_6 := ⟨_, rfl⟩
    rw [← ex_9]
    replace hw := hw x_9 ex_9
    refine gk_istore_n (pc := 36) (lv' := [(1, Value.int x_9), (5, Value.ref a_4), (2, Value.ref a_2), (3, Value.int x3), (4, Value.int x4)]) C.1 dX12_hashCode_36 rfl (by rw [hXn]; decide) (by first | rfl | simp [va_rf_S, va_rf_cat, cat_i, cat_a, cat_l, cat_f, fin4_0, fin4_1, fin4_2, fin4_3]) ?_
    obtain ⟨x_10, ex_10⟩ : ∃ z : Int32, z = x4 + 1 := ⟨_, rfl⟩
    replace hw := hw x_10 ex_10
    refine gk_iinc (pc := 37) (v := x_10) (lv' := [(4, Value.int x_10), (1, Value.int x_9), (5, Value.ref a_4), (2, Value.ref a_2), (3, Value.int x3)]) C.1 4 dX12_hashCode_37 rfl (by rw [ex_10]; rfl) (by rw [hXn]; decide) (by first | rfl | simp [va_rf_S, va_rf_cat, cat_i, cat_a, cat_l, cat_f, fin4_0, fin4_1, fin4_2, fin4_3]) ?_
    refine gk_goto (pc := 40) (tgt := 14) C.1 dX12_hashCode_40 (by decide) ?_
    refine GK.sub (lv' := [(1, .int x_9), (2, va_rf (some a_2)), (3, .int x3), (4, .int x_10)]) [1, 3, 4, 0] rfl ?_
    exact ih _ _ _ _ _ hw
def wb_X12_hashCode (cl : CT) (lm : Nat × Nat) (Q : QT) (E : ET) (x0 : Nat) (h : HS) : Prop := (hT h x0 = 5) ∧ (∀ r_1 : Option Nat, r_1 = hR h 20 x0 → (∃ a_2 : Nat, r_1 = some a_2 ∧ (hT h a_2 = 114 ∧ (∀ x_3 : Int32, x_3 = nI (hN h a_2) → (∃ fu : Nat, wb_X12_hashCode_14 cl lm Q E fu 17 (some a_2) x_3 0 h)))))
theorem wx_X12_hashCode {l : Launch} (hst : l.stackTraces = false) {G : GG} {cl : CT} {lm : Nat × Nat} {Q : QT} {E : ET} {d2 : Nat} (hCl : CallsOK l G d2 cl ∧ hLm G lm ∧ 8 ≤ d2 ∧ LamsOK l G d2 cl) {x0 : Nat} {h : HS} (hw : wb_X12_hashCode cl lm Q E x0 h) : HMet l G yX12_hashCode (ws_ yX12_hashCode cX12_hashCode 6 ((Option.some Jvm.ClassFile.FieldType.int))) (d2 + 1) [.ref x0] h Q E := by
  refine gh_met (own := RX12) rfl (by decide +kernel) hst (by simp only [lg_sl_i, lg_sl_r, lg_sl_a, lg_sl_2, lg_sl_f, lg_sl_0]; decide) (fun X hXl hXn hret hnm hTb h0 eh C S0 => ?_)
  subst hXl
  have hlm := hCl.2.1
  have hd8 := hCl.2.2.1
  have hd2 : 1 ≤ d2 := Nat.le_trans (by decide) hd8
  have hLa := hCl.2.2.2
  have hd1 : 1 ≤ d2 + 1 := Nat.le_add_left _ _
  have hC9 := hCl
  replace hCl := hCl.1
  have hini : True := trivial
  unfold wb_X12_hashCode at hw
  refine GK.sub (lv' := [(0, .ref x0)]) [0] (by simp only [lv_args_i, lv_args_r, lv_args_a, lv_args_l, lv_args_f, lv_args_0]; rfl) ?_
  refine gk_bipush (pc := 0) (v := 17) C.1 dX12_hashCode_0 (by decide) ?_
  refine gk_istore_n (pc := 2) (lv' := [(1, Value.int 17), (0, Value.ref x0)]) C.1 dX12_hashCode_2 rfl (by rw [hXn]; decide) (by first | rfl | simp [va_rf_S, va_rf_cat, cat_i, cat_a, cat_l, cat_f, fin4_0, fin4_1, fin4_2, fin4_3]) ?_
  refine gk_aload_n (pc := 3) C.1 1 dX12_hashCode_3 rfl rfl ?_
  obtain ⟨ht, hw⟩ := hw
  refine gf_X12_9 (pc := 4) C ht dX12_hashCode_4 (fun r_1 er_1 => ?_)
  replace hw := hw r_1 er_1
  refine gk_qstore_n (pc := 7) (lv' := [(2, va_rf r_1), (1, Value.int 17), (0, Value.ref x0)]) C.1 dX12_hashCode_7 rfl (by rw [hXn]; decide) (by first | rfl | simp [va_rf_S, va_rf_cat, cat_i, cat_a, cat_l, cat_f, fin4_0, fin4_1, fin4_2, fin4_3]) ?_
  refine gk_qload_n (pc := 8) C.1 0 dX12_hashCode_8 rfl rfl ?_
  obtain ⟨a_2, rfl, hw⟩ := hw
  obtain ⟨ht, hw⟩ := hw
  refine gh_len (pc := 9) (t0 := 6) (ty := tyA 114) C ht (by decide) rfl dX12_hashCode_9 ?_
  obtain ⟨x_3, ex_3⟩ : ∃ z : Int32, z = nI (hN h a_2) := ⟨_, rfl⟩
  rw [← ex_3]
  replace hw := hw x_3 ex_3
  refine gk_istore_n (pc := 10) (lv' := [(3, Value.int x_3), (2, Value.ref a_2), (1, Value.int 17), (0, Value.ref x0)]) C.1 dX12_hashCode_10 rfl (by rw [hXn]; decide) (by first | rfl | simp [va_rf_S, va_rf_cat, cat_i, cat_a, cat_l, cat_f, fin4_0, fin4_1, fin4_2, fin4_3]) ?_
  refine gk_iconst (pc := 11) (v := 0) C.1 dX12_hashCode_11 (by decide) ?_
  refine gk_istore (pc := 12) (lv' := [(4, Value.int 0), (3, Value.int x_3), (2, Value.ref a_2), (1, Value.int 17), (0, Value.ref x0)]) C.1 dX12_hashCode_12 (by rw [hXn]; decide) (by first | rfl | simp [va_rf_S, va_rf_cat, cat_i, cat_a, cat_l, cat_f, fin4_0, fin4_1, fin4_2, fin4_3]) ?_
  refine GK.sub (lv' := [(1, .int 17), (2, va_rf (some a_2)), (3, .int x_3), (4, .int 0)]) [3, 2, 1, 0] rfl ?_
  obtain ⟨n9, hw⟩ := hw
  exact wk_X12_hashCode_14 C hC9 S0 hret hXn hini hTb  n9 _ _ _ _ _ hw
/-! 213: GathersAllFaults$Lst.<init>([LGathersAllFaults$Value;)V -/
def wb_X12_init (cl : CT) (lm : Nat × Nat) (Q : QT) (E : ET) (x0 : Nat) (x1 : Option Nat) (h : HS) : Prop := cl 144 (.ref x0 :: []) h (gV (fun h_1 => (hT h_1 x0 = 5) ∧ (∀ h_4 : HS, h_4 = sR h_1 20 x0 x1 → (Q none h_4)))) E
theorem wx_X12_init {l : Launch} (hst : l.stackTraces = false) {G : GG} {cl : CT} {lm : Nat × Nat} {Q : QT} {E : ET} {d2 : Nat} (hCl : CallsOK l G d2 cl ∧ hLm G lm ∧ 8 ≤ d2 ∧ LamsOK l G d2 cl) {x0 : Nat} {x1 : Option Nat} {h : HS} (hw : wb_X12_init cl lm Q E x0 x1 h) : HMet l G yX12_init (ws_ yX12_init cX12_init 2 ((Option.none : Option Jvm.ClassFile.FieldType))) (d2 + 1) [.ref x0, va_rf x1] h Q E := by
  refine gh_met (own := RX12) rfl (by decide +kernel) hst (by simp only [lg_sl_i, lg_sl_r, lg_sl_a, lg_sl_2, lg_sl_f, lg_sl_0]; decide) (fun X hXl hXn hret hnm hTb h0 eh C S0 => ?_)
  subst hXl
  have hlm := hCl.2.1
  have hd8 := hCl.2.2.1
  have hd2 : 1 ≤ d2 := Nat.le_trans (by decide) hd8
  have hLa := hCl.2.2.2
  have hd1 : 1 ≤ d2 + 1 := Nat.le_add_left _ _
  have hC9 := hCl
  replace hCl := hCl.1
  have hini : (ev_h X).name = "<init>" := hnm.1
  unfold wb_X12_init at hw
  refine GK.sub (lv' := [(0, .ref x0), (1, va_rf x1)]) [0, 1] (by simp only [lv_args_i, lv_args_r, lv_args_a, lv_args_l, lv_args_f, lv_args_0]; rfl) ?_
  refine gk_aload_n (pc := 0) C.1 0 dX12_init_0 rfl rfl ?_
  refine gc_X12_3 (pc := 1) (As := []) (rest := []) C hCl (Nat.le_refl _) hw rfl rfl (Nat.le_of_ble_eq_true rfl) dX12_init_1 (fun v9 h_1 hp => ?_) (fun q_2 h_3 hw ht9 => ?_)
  rotate_left
  · exact gx_out C S0 (by rw [hTb]; decide) ht9 hw
  clear hw
  obtain ⟨rfl, hw⟩ := hp
  refine GK.at (p2 := 4) rfl ?_
  refine gk_aload_n (pc := 4) C.1 0 dX12_init_4 rfl rfl ?_
  refine gk_qload_n (pc := 5) C.1 1 dX12_init_5 rfl rfl ?_
  obtain ⟨ht, hw⟩ := hw
  refine gfp_X12_9 (pc := 6) (r := x1) C hini ht dX12_init_6 (fun h_4 eh_4 => ?_)
  replace hw := hw h_4 eh_4
  exact gh_vret (pc := 9) C S0 hret dX12_init_9 hw
/-! 214: GathersAllFaults$Lst.isAhead(I)Z -/
def wb_X12_isAhead_2 (cl : CT) (lm : Nat × Nat) (Q : QT) (E : ET) : Nat → Nat → Int32 → Int32 → HS → Prop
  | 0 => fun _ _ _ _ => False
  | n + 1 => fun x0 x1 x2 h => ((x1 ≤ x2 → (Q (some (.int 0)) h)) ∧ (¬ x1 ≤ x2 → ((hT h x0 = 5) ∧ (∀ r_2 : Option Nat, r_2 = hR h 20 x0 → (∃ a_3 : Nat, r_2 = some a_3 ∧ (hT h a_3 = 114 ∧ (vp_in x2 (hN h a_3) ∧ (∀ r_4 : Option Nat, r_4 = hB h a_3 x2.toNatClampNeg → ((hT h x0 = 5) ∧ (∀ r_5 : Option Nat, r_5 = hR h 20 x0 → (∃ a_6 : Nat, r_5 = some a_6 ∧ (hT h a_6 = 114 ∧ (vp_in x1 (hN h a_6) ∧ (∀ r_7 : Option Nat, r_7 = hB h a_6 x1.toNatClampNeg → (∃ a_8 : Nat, r_4 = some a_8 ∧ (dp_Value_equals cl a_8 [va_rf r_7] h (gI (fun r_10 h_9 => ((r_10 = 0 → (∀ x_14 : Int32, x_14 = x2 + 1 → (wb_X12_isAhead_2 cl lm Q E n x0 x1 x_14 h_9))) ∧ (¬ r_10 = 0 → (Q (some (.int 1)) h_9))))) E))))))))))))))))
theorem wk_X12_isAhead_2 {X : Ev} {G : GG} {cl : CT} {lm : Nat × Nat} {Q : QT} {E : ET} {h0 : HS} {d2 : Nat} (C : HC X G RX12 cX12_isAhead (d2 + 1)) (hCl : CallsOK (ev_l X) G d2 cl ∧ hLm G lm ∧ 8 ≤ d2 ∧ LamsOK (ev_l X) G d2 cl) (S0 : HS0 X h0) (hret : (ev_h X).sig.returnType = (Option.some Jvm.ClassFile.FieldType.boolean)) (hXn : ev_n X = 3) (hini : True) (hTb : (ev_c X).exceptionTable.toList = []) : ∀ (n : Nat) (x0 : Nat) (x1 : Int32) (x2 : Int32) (h : HS), wb_X12_isAhead_2 cl lm Q E n x0 x1 x2 h → GH X G h (hQ X G h0 Q E) 2 [(0, .ref x0), (1, .int x1), (2, .int x2)] [] := by
  have hlm := hCl.2.1
  have hd8 := hCl.2.2.1
  have hd2 : 1 ≤ d2 := Nat.le_trans (by decide) hd8
  have hLa := hCl.2.2.2
  have hd1 : 1 ≤ d2 + 1 := Nat.le_add_left _ _
  have hC9 := hCl
  replace hCl := hCl.1
  intro n
  induction n with
  | zero => intro x0 x1 x2 h hw; exact hw.elim
  | succ n ih =>
  intro x0 x1 x2 h hw
  unfold wb_X12_isAhead_2 at hw
  refine gk_iload_n (pc := 2) C.1 2 dX12_isAhead_2 rfl rfl ?_
  refine gk_iload_n (pc := 3) C.1 1 dX12_isAhead_3 rfl rfl ?_
  refine gk_icmp_ge (pc := 4) (tgt := 33) C.1 dX12_isAhead_4 (by decide) (fun c_1 => ?_) (fun c_1 => ?_)
  · replace hw := hw.1 c_1
    refine gk_iconst (pc := 33) (v := 0) C.1 dX12_isAhead_33 (by decide) ?_
    exact gh_zret (pc := 34) C S0 hret dX12_isAhead_34 bz0 hw
  · replace hw := hw.2 c_1
    refine gk_aload_n (pc := 7) C.1 0 dX12_isAhead_7 rfl rfl ?_
    obtain ⟨ht, hw⟩ := hw
    refine gf_X12_9 (pc := 8) C ht dX12_isAhead_8 (fun r_2 er_2 => ?_)
    replace hw := hw r_2 er_2
    refine gk_iload_n (pc := 11) C.1 2 dX12_isAhead_11 rfl rfl ?_
    obtain ⟨a_3, rfl, hw⟩ := hw
    obtain ⟨ht, hi, hw⟩ := hw
    refine gh_aald (pc := 12) (t0 := 6) (E := "GathersAllFaults$Value") C ht (by decide) (by decide) rfl hi dX12_isAhead_12 ?_
    obtain ⟨r_4, er_4⟩ : ∃ z : Option Nat, z = hB h a_3 x2.toNatClampNeg := ⟨_, rfl⟩
    rw [← er_4]
    replace hw := hw r_4 er_4
    refine gk_aload_n (pc := 13) C.1 0 dX12_isAhead_13 rfl rfl ?_
    obtain ⟨ht, hw⟩ := hw
    refine gf_X12_9 (pc := 14) C ht dX12_isAhead_14 (fun r_5 er_5 => ?_)
    replace hw := hw r_5 er_5
    refine gk_iload_n (pc := 17) C.1 1 dX12_isAhead_17 rfl rfl ?_
    obtain ⟨a_6, rfl, hw⟩ := hw
    obtain ⟨ht, hi, hw⟩ := hw
    refine gh_aald (pc := 18) (t0 := 6) (E := "GathersAllFaults$Value") C ht (by decide) (by decide) rfl hi dX12_isAhead_18 ?_
    obtain ⟨r_7, er_7⟩ : ∃ z : Option Nat, z = hB h a_6 x1.toNatClampNeg := ⟨_, rfl⟩
    rw [← er_7]
    replace hw := hw r_7 er_7
    obtain ⟨a_8, rfl, hw⟩ := hw
    refine gc_X12_15 (pc := 19) (As := [va_rf r_7]) (rest := []) C hCl (Nat.le_refl _) hw rfl rfl (Nat.le_of_ble_eq_true rfl) dX12_isAhead_19 (fun v9 h_9 hp => ?_) (fun q_11 h_12 hw ht9 => ?_)
    rotate_left
    · exact gx_out C S0 (by rw [hTb]; decide) ht9 hw
    clear hw
    obtain ⟨r_10, rfl, hw⟩ := hp
    refine GK.at (p2 := 22) rfl ?_
    refine gk_if_eq (pc := 22) (tgt := 27) C.1 dX12_isAhead_22 (by decide) (fun c_13 => ?_) (fun c_13 => ?_)
    · replace hw := hw.1 c_13
      obtain ⟨x_14, ex_14⟩ : ∃ z : Int32, z = x2 + 1 := ⟨_, rfl⟩
      replace hw := hw x_14 ex_14
      refine gk_iinc (pc := 27) (v := x_14) (lv' := [(2, Value.int x_14), (0, Value.ref x0), (1, Value.int x1)]) C.1 2 dX12_isAhead_27 rfl (by rw [ex_14]; rfl) (by rw [hXn]; decide) (by first | rfl | simp [va_rf_S, va_rf_cat, cat_i, cat_a, cat_l, cat_f, fin4_0, fin4_1, fin4_2, fin4_3]) ?_
      refine gk_goto (pc := 30) (tgt := 2) C.1 dX12_isAhead_30 (by decide) ?_
      refine GK.sub (lv' := [(0, .ref x0), (1, .int x1), (2, .int x_14)]) [1, 2, 0] rfl ?_
      exact ih _ _ _ _ hw
    · replace hw := hw.2 c_13
      refine gk_iconst (pc := 25) (v := 1) C.1 dX12_isAhead_25 (by decide) ?_
      exact gh_zret (pc := 26) C S0 hret dX12_isAhead_26 bz1 hw
def wb_X12_isAhead (cl : CT) (lm : Nat × Nat) (Q : QT) (E : ET) (x0 : Nat) (x1 : Int32) (h : HS) : Prop := ∃ fu : Nat, wb_X12_isAhead_2 cl lm Q E fu x0 x1 0 h
theorem wx_X12_isAhead {l : Launch} (hst : l.stackTraces = false) {G : GG} {cl : CT} {lm : Nat × Nat} {Q : QT} {E : ET} {d2 : Nat} (hCl : CallsOK l G d2 cl ∧ hLm G lm ∧ 8 ≤ d2 ∧ LamsOK l G d2 cl) {x0 : Nat} {x1 : Int32} {h : HS} (hw : wb_X12_isAhead cl lm Q E x0 x1 h) : HMet l G yX12_isAhead (ws_ yX12_isAhead cX12_isAhead 3 ((Option.some Jvm.ClassFile.FieldType.boolean))) (d2 + 1) [.ref x0, .int x1] h Q E := by
  refine gh_met (own := RX12) rfl (by decide +kernel) hst (by simp only [lg_sl_i, lg_sl_r, lg_sl_a, lg_sl_2, lg_sl_f, lg_sl_0]; decide) (fun X hXl hXn hret hnm hTb h0 eh C S0 => ?_)
  subst hXl
  have hlm := hCl.2.1
  have hd8 := hCl.2.2.1
  have hd2 : 1 ≤ d2 := Nat.le_trans (by decide) hd8
  have hLa := hCl.2.2.2
  have hd1 : 1 ≤ d2 + 1 := Nat.le_add_left _ _
  have hC9 := hCl
  replace hCl := hCl.1
  have hini : True := trivial
  unfold wb_X12_isAhead at hw
  refine GK.sub (lv' := [(0, .ref x0), (1, .int x1)]) [0, 1] (by simp only [lv_args_i, lv_args_r, lv_args_a, lv_args_l, lv_args_f, lv_args_0]; rfl) ?_
  refine gk_iconst (pc := 0) (v := 0) C.1 dX12_isAhead_0 (by decide) ?_
  refine gk_istore_n (pc := 1) (lv' := [(2, Value.int 0), (0, Value.ref x0), (1, Value.int x1)]) C.1 dX12_isAhead_1 rfl (by rw [hXn]; decide) (by first | rfl | simp [va_rf_S, va_rf_cat, cat_i, cat_a, cat_l, cat_f, fin4_0, fin4_1, fin4_2, fin4_3]) ?_
  refine GK.sub (lv' := [(0, .ref x0), (1, .int x1), (2, .int 0)]) [1, 2, 0] rfl ?_
  obtain ⟨n9, hw⟩ := hw
  exact wk_X12_isAhead_2 C hC9 S0 hret hXn hini hTb  n9 _ _ _ _ hw
/-! 215: GathersAllFaults$Lst.kind()I -/
def wb_X12_kind (cl : CT) (lm : Nat × Nat) (Q : QT) (E : ET) (x0 : Nat) (h : HS) : Prop := Q (some (.int 3)) h
theorem wx_X12_kind {l : Launch} (hst : l.stackTraces = false) {G : GG} {cl : CT} {lm : Nat × Nat} {Q : QT} {E : ET} {d2 : Nat} (hCl : CallsOK l G d2 cl ∧ hLm G lm ∧ 8 ≤ d2 ∧ LamsOK l G d2 cl) {x0 : Nat} {h : HS} (hw : wb_X12_kind cl lm Q E x0 h) : HMet l G yX12_kind (ws_ yX12_kind cX12_kind 1 ((Option.some Jvm.ClassFile.FieldType.int))) (d2 + 1) [.ref x0] h Q E := by
  refine gh_met (own := RX12) rfl (by decide +kernel) hst (by simp only [lg_sl_i, lg_sl_r, lg_sl_a, lg_sl_2, lg_sl_f, lg_sl_0]; decide) (fun X hXl hXn hret hnm hTb h0 eh C S0 => ?_)
  subst hXl
  have hlm := hCl.2.1
  have hd8 := hCl.2.2.1
  have hd2 : 1 ≤ d2 := Nat.le_trans (by decide) hd8
  have hLa := hCl.2.2.2
  have hd1 : 1 ≤ d2 + 1 := Nat.le_add_left _ _
  have hC9 := hCl
  replace hCl := hCl.1
  have hini : True := trivial
  unfold wb_X12_kind at hw
  refine GK.sub (lv' := [(0, .ref x0)]) [0] (by simp only [lv_args_i, lv_args_r, lv_args_a, lv_args_l, lv_args_f, lv_args_0]; rfl) ?_
  refine gk_iconst (pc := 0) (v := 3) C.1 dX12_kind_0 (by decide) ?_
  exact gh_iret (pc := 1) C S0 hret dX12_kind_1 hw
/-! 216: GathersAllFaults$Lst.lay(LGathersAllFaults$Row;I)V -/
def wb_X12_lay_2 (cl : CT) (lm : Nat × Nat) (Q : QT) (E : ET) : Nat → Nat → Option Nat → Int32 → Int32 → HS → Prop
  | 0 => fun _ _ _ _ _ => False
  | n + 1 => fun x0 x1 x2 x3 h => (hT h x0 = 5) ∧ (∀ r_1 : Option Nat, r_1 = hR h 20 x0 → (∃ a_2 : Nat, r_1 = some a_2 ∧ (hT h a_2 = 114 ∧ ((((nI (hN h a_2)) ≤ x3 → (Q none h)) ∧ (¬ (nI (hN h a_2)) ≤ x3 → ((hT h x0 = 5) ∧ (∀ r_4 : Option Nat, r_4 = hR h 20 x0 → (∃ a_5 : Nat, r_4 = some a_5 ∧ (hT h a_5 = 114 ∧ (vp_in x3 (hN h a_5) ∧ (∀ r_6 : Option Nat, r_6 = hB h a_5 x3.toNatClampNeg → (∃ a_7 : Nat, r_6 = some a_7 ∧ (dp_Value_layAll cl a_7 [va_rf x1, .int ((((10 * x2) + 1) + 5) + x3)] h (gV (fun h_8 => ∀ x_11 : Int32, x_11 = x3 + 1 → (wb_X12_lay_2 cl lm Q E n x0 x1 x2 x_11 h_8))) E))))))))))))))
theorem wk_X12_lay_2 {X : Ev} {G : GG} {cl : CT} {lm : Nat × Nat} {Q : QT} {E : ET} {h0 : HS} {d2 : Nat} (C : HC X G RX12 cX12_lay (d2 + 1)) (hCl : CallsOK (ev_l X) G d2 cl ∧ hLm G lm ∧ 8 ≤ d2 ∧ LamsOK (ev_l X) G d2 cl) (S0 : HS0 X h0) (hret : (ev_h X).sig.returnType = (Option.none : Option Jvm.ClassFile.FieldType)) (hXn : ev_n X = 4) (hini : True) (hTb : (ev_c X).exceptionTable.toList = []) : ∀ (n : Nat) (x0 : Nat) (x1 : Option Nat) (x2 : Int32) (x3 : Int32) (h : HS), wb_X12_lay_2 cl lm Q E n x0 x1 x2 x3 h → GH X G h (hQ X G h0 Q E) 2 [(0, .ref x0), (1, va_rf x1), (2, .int x2), (3, .int x3)] [] := by
  have hlm := hCl.2.1
  have hd8 := hCl.2.2.1
  have hd2 : 1 ≤ d2 := Nat.le_trans (by decide) hd8
  have hLa := hCl.2.2.2
  have hd1 : 1 ≤ d2 + 1 := Nat.le_add_left _ _
  have hC9 := hCl
  replace hCl := hCl.1
  intro n
  induction n with
  | zero => intro x0 x1 x2 x3 h hw; exact hw.elim
  | succ n ih =>
  intro x0 x1 x2 x3 h hw
  unfold wb_X12_lay_2 at hw
  refine gk_iload_n (pc := 2) C.1 3 dX12_lay_2 rfl rfl ?_
  refine gk_aload_n (pc := 3) C.1 0 dX12_lay_3 rfl rfl ?_
  obtain ⟨ht, hw⟩ := hw
  refine gf_X12_9 (pc := 4) C ht dX12_lay_4 (fun r_1 er_1 => ?_)
  replace hw := hw r_1 er_1
  obtain ⟨a_2, rfl, hw⟩ := hw
  obtain ⟨ht, hw⟩ := hw
  refine gh_len (pc := 7) (t0 := 6) (ty := tyA 114) C ht (by decide) rfl dX12_lay_7 ?_
  refine gk_icmp_ge (pc := 8) (tgt := 37) C.1 dX12_lay_8 (by decide) (fun c_3 => ?_) (fun c_3 => ?_)
  · replace hw := hw.1 c_3
    exact gh_vret (pc := 37) C S0 hret dX12_lay_37 hw
  · replace hw := hw.2 c_3
    refine gk_aload_n (pc := 11) C.1 0 dX12_lay_11 rfl rfl ?_
    obtain ⟨ht, hw⟩ := hw
    refine gf_X12_9 (pc := 12) C ht dX12_lay_12 (fun r_4 er_4 => ?_)
    replace hw := hw r_4 er_4
    refine gk_iload_n (pc := 15) C.1 3 dX12_lay_15 rfl rfl ?_
    obtain ⟨a_5, rfl, hw⟩ := hw
    obtain ⟨ht, hi, hw⟩ := hw
    refine gh_aald (pc := 16) (t0 := 6) (E := "GathersAllFaults$Value") C ht (by decide) (by decide) rfl hi dX12_lay_16 ?_
    obtain ⟨r_6, er_6⟩ : ∃ z : Option Nat, z = hB h a_5 x3.toNatClampNeg := ⟨_, rfl⟩
    rw [← er_6]
    replace hw := hw r_6 er_6
    refine gk_qload_n (pc := 17) C.1 1 dX12_lay_17 rfl rfl ?_
    refine gk_bipush (pc := 18) (v := 10) C.1 dX12_lay_18 (by decide) ?_
    refine gk_iload_n (pc := 20) C.1 2 dX12_lay_20 rfl rfl ?_
    refine gk_imul (pc := 21) C.1 dX12_lay_21 ?_
    refine gk_iconst (pc := 22) (v := 1) C.1 dX12_lay_22 (by decide) ?_
    refine gk_iadd (pc := 23) C.1 dX12_lay_23 ?_
    refine gk_iconst (pc := 24) (v := 5) C.1 dX12_lay_24 (by decide) ?_
    refine gk_iadd (pc := 25) C.1 dX12_lay_25 ?_
    refine gk_iload_n (pc := 26) C.1 3 dX12_lay_26 rfl rfl ?_
    refine gk_iadd (pc := 27) C.1 dX12_lay_27 ?_
    obtain ⟨a_7, rfl, hw⟩ := hw
    refine gc_X12_33 (pc := 28) (As := [va_rf x1, .int ((((10 * x2) + 1) + 5) + x3)]) (rest := []) C hCl (Nat.le_refl _) hw rfl rfl (Nat.le_of_ble_eq_true rfl) dX12_lay_28 (fun v9 h_8 hp => ?_) (fun q_9 h_10 hw ht9 => ?_)
    rotate_left
    · exact gx_out C S0 (by rw [hTb]; decide) ht9 hw
    clear hw
    obtain ⟨rfl, hw⟩ := hp
    refine GK.at (p2 := 31) rfl ?_
    obtain ⟨x_11, ex_11⟩ : ∃ z : Int32, z = x3 + 1 := ⟨_, rfl⟩
    replace hw := hw x_11 ex_11
    refine gk_iinc (pc := 31) (v := x_11) (lv' := [(3, Value.int x_11), (0, Value.ref x0), (1, va_rf x1), (2, Value.int x2)]) C.1 3 dX12_lay_31 rfl (by rw [ex_11]; rfl) (by rw [hXn]; decide) (by first | rfl | simp [va_rf_S, va_rf_cat, cat_i, cat_a, cat_l, cat_f, fin4_0, fin4_1, fin4_2, fin4_3]) ?_
    refine gk_goto (pc := 34) (tgt := 2) C.1 dX12_lay_34 (by decide) ?_
    refine GK.sub (lv' := [(0, .ref x0), (1, va_rf x1), (2, .int x2), (3, .int x_11)]) [1, 2, 3, 0] rfl ?_
    exact ih _ _ _ _ _ hw
def wb_X12_lay (cl : CT) (lm : Nat × Nat) (Q : QT) (E : ET) (x0 : Nat) (x1 : Option Nat) (x2 : Int32) (h : HS) : Prop := ∃ fu : Nat, wb_X12_lay_2 cl lm Q E fu x0 x1 x2 0 h
theorem wx_X12_lay {l : Launch} (hst : l.stackTraces = false) {G : GG} {cl : CT} {lm : Nat × Nat} {Q : QT} {E : ET} {d2 : Nat} (hCl : CallsOK l G d2 cl ∧ hLm G lm ∧ 8 ≤ d2 ∧ LamsOK l G d2 cl) {x0 : Nat} {x1 : Option Nat} {x2 : Int32} {h : HS} (hw : wb_X12_lay cl lm Q E x0 x1 x2 h) : HMet l G yX12_lay (ws_ yX12_lay cX12_lay 4 ((Option.none : Option Jvm.ClassFile.FieldType))) (d2 + 1) [.ref x0, va_rf x1, .int x2] h Q E := by
  refine gh_met (own := RX12) rfl (by decide +kernel) hst (by simp only [lg_sl_i, lg_sl_r, lg_sl_a, lg_sl_2, lg_sl_f, lg_sl_0]; decide) (fun X hXl hXn hret hnm hTb h0 eh C S0 => ?_)
  subst hXl
  have hlm := hCl.2.1
  have hd8 := hCl.2.2.1
  have hd2 : 1 ≤ d2 := Nat.le_trans (by decide) hd8
  have hLa := hCl.2.2.2
  have hd1 : 1 ≤ d2 + 1 := Nat.le_add_left _ _
  have hC9 := hCl
  replace hCl := hCl.1
  have hini : True := trivial
  unfold wb_X12_lay at hw
  refine GK.sub (lv' := [(0, .ref x0), (1, va_rf x1), (2, .int x2)]) [0, 1, 2] (by simp only [lv_args_i, lv_args_r, lv_args_a, lv_args_l, lv_args_f, lv_args_0]; rfl) ?_
  refine gk_iconst (pc := 0) (v := 0) C.1 dX12_lay_0 (by decide) ?_
  refine gk_istore_n (pc := 1) (lv' := [(3, Value.int 0), (0, Value.ref x0), (1, va_rf x1), (2, Value.int x2)]) C.1 dX12_lay_1 rfl (by rw [hXn]; decide) (by first | rfl | simp [va_rf_S, va_rf_cat, cat_i, cat_a, cat_l, cat_f, fin4_0, fin4_1, fin4_2, fin4_3]) ?_
  refine GK.sub (lv' := [(0, .ref x0), (1, va_rf x1), (2, .int x2), (3, .int 0)]) [1, 2, 3, 0] rfl ?_
  obtain ⟨n9, hw⟩ := hw
  exact wk_X12_lay_2 C hC9 S0 hret hXn hini hTb  n9 _ _ _ _ _ hw
/-! 217: GathersAllFaults$Lst.many()I -/
def wb_X12_many (cl : CT) (lm : Nat × Nat) (Q : QT) (E : ET) (x0 : Nat) (h : HS) : Prop := (hT h x0 = 5) ∧ (∀ r_1 : Option Nat, r_1 = hR h 20 x0 → (∃ a_2 : Nat, r_1 = some a_2 ∧ (hT h a_2 = 114 ∧ (Q (some (.int (nI (hN h a_2)))) h))))
theorem wx_X12_many {l : Launch} (hst : l.stackTraces = false) {G : GG} {cl : CT} {lm : Nat × Nat} {Q : QT} {E : ET} {d2 : Nat} (hCl : CallsOK l G d2 cl ∧ hLm G lm ∧ 8 ≤ d2 ∧ LamsOK l G d2 cl) {x0 : Nat} {h : HS} (hw : wb_X12_many cl lm Q E x0 h) : HMet l G yX12_many (ws_ yX12_many cX12_many 1 ((Option.some Jvm.ClassFile.FieldType.int))) (d2 + 1) [.ref x0] h Q E := by
  refine gh_met (own := RX12) rfl (by decide +kernel) hst (by simp only [lg_sl_i, lg_sl_r, lg_sl_a, lg_sl_2, lg_sl_f, lg_sl_0]; decide) (fun X hXl hXn hret hnm hTb h0 eh C S0 => ?_)
  subst hXl
  have hlm := hCl.2.1
  have hd8 := hCl.2.2.1
  have hd2 : 1 ≤ d2 := Nat.le_trans (by decide) hd8
  have hLa := hCl.2.2.2
  have hd1 : 1 ≤ d2 + 1 := Nat.le_add_left _ _
  have hC9 := hCl
  replace hCl := hCl.1
  have hini : True := trivial
  unfold wb_X12_many at hw
  refine GK.sub (lv' := [(0, .ref x0)]) [0] (by simp only [lv_args_i, lv_args_r, lv_args_a, lv_args_l, lv_args_f, lv_args_0]; rfl) ?_
  refine gk_aload_n (pc := 0) C.1 0 dX12_many_0 rfl rfl ?_
  obtain ⟨ht, hw⟩ := hw
  refine gf_X12_9 (pc := 1) C ht dX12_many_1 (fun r_1 er_1 => ?_)
  replace hw := hw r_1 er_1
  obtain ⟨a_2, rfl, hw⟩ := hw
  obtain ⟨ht, hw⟩ := hw
  refine gh_len (pc := 4) (t0 := 6) (ty := tyA 114) C ht (by decide) rfl dX12_many_4 ?_
  exact gh_iret (pc := 5) C S0 hret dX12_many_5 hw
/-! 218: GathersAllFaults$Lst.size()I -/
def wb_X12_size_13 (cl : CT) (lm : Nat × Nat) (Q : QT) (E : ET) : Nat → Int32 → Option Nat → Int32 → Int32 → HS → Prop
  | 0 => fun _ _ _ _ _ => False
  | n + 1 => fun x1 x2 x3 x4 h => ((x3 ≤ x4 → (Q (some (.int x1)) h)) ∧ (¬ x3 ≤ x4 → (∃ a_2 : Nat, x2 = some a_2 ∧ (hT h a_2 = 114 ∧ (vp_in x4 (hN h a_2) ∧ (∀ r_3 : Option Nat, r_3 = hB h a_2 x4.toNatClampNeg → (∃ a_4 : Nat, r_3 = some a_4 ∧ (dp_Value_size cl a_4 [] h (gI (fun r_6 h_5 => ∀ x_9 : Int32, x_9 = x1 + r_6 → (∀ x_10 : Int32, x_10 = x4 + 1 → (wb_X12_size_13 cl lm Q E n x_9 (some a_2) x3 x_10 h_5)))) E))))))))
theorem wk_X12_size_13 {X : Ev} {G : GG} {cl : CT} {lm : Nat × Nat} {Q : QT} {E : ET} {h0 : HS} {d2 : Nat} (C : HC X G RX12 cX12_size (d2 + 1)) (hCl : CallsOK (ev_l X) G d2 cl ∧ hLm G lm ∧ 8 ≤ d2 ∧ LamsOK (ev_l X) G d2 cl) (S0 : HS0 X h0) (hret : (ev_h X).sig.returnType = (Option.some Jvm.ClassFile.FieldType.int)) (hXn : ev_n X = 6) (hini : True) (hTb : (ev_c X).exceptionTable.toList = []) : ∀ (n : Nat) (x1 : Int32) (x2 : Option Nat) (x3 : Int32) (x4 : Int32) (h : HS), wb_X12_size_13 cl lm Q E n x1 x2 x3 x4 h → GH X G h (hQ X G h0 Q E) 13 [(1, .int x1), (2, va_rf x2), (3, .int x3), (4, .int x4)] [] := by
  have hlm := hCl.2.1
  have hd8 := hCl.2.2.1
  have hd2 : 1 ≤ d2 := Nat.le_trans (by decide) hd8
  have hLa := hCl.2.2.2
  have hd1 : 1 ≤ d2 + 1 := Nat.le_add_left _ _
  have hC9 := hCl
  replace hCl := hCl.1
  intro n
  induction n with
  | zero => intro x1 x2 x3 x4 h hw; exact hw.elim
  | succ n ih =>
  intro x1 x2 x3 x4 h hw
  unfold wb_X12_size_13 at hw
  refine gk_iload (pc := 13) C.1 3 dX12_size_13 rfl ?_
  refine gk_iload_n (pc := 15) C.1 2 dX12_size_15 rfl rfl ?_
  refine gk_icmp_ge (pc := 16) (tgt := 39) C.1 dX12_size_16 (by decide) (fun c_1 => ?_) (fun c_1 => ?_)
  · replace hw := hw.1 c_1
    refine gk_iload_n (pc := 39) C.1 0 dX12_size_39 rfl rfl ?_
    exact gh_iret (pc := 40) C S0 hret dX12_size_40 hw
  · replace hw := hw.2 c_1
    refine gk_qload_n (pc := 19) C.1 1 dX12_size_19 rfl rfl ?_
    refine gk_iload (pc := 20) C.1 3 dX12_size_20 rfl ?_
    obtain ⟨a_2, rfl, hw⟩ := hw
    obtain ⟨ht, hi, hw⟩ := hw
    refine gh_aald (pc := 22) (t0 := 6) (E := "GathersAllFaults$Value") C ht (by decide) (by decide) rfl hi dX12_size_22 ?_
    obtain ⟨r_3, er_3⟩ : ∃ z : Option Nat, z = hB h a_2 x4.toNatClampNeg := ⟨_, rfl⟩
    rw [← er_3]
    replace hw := hw r_3 er_3
    refine gk_qstore (pc := 23) (lv' := [(5, va_rf r_3), (1, Value.int x1), (2, Value.ref a_2), (3, Value.int x3), (4, Value.int x4)]) C.1 dX12_size_23 (by rw [hXn]; decide) (by first | rfl | simp [va_rf_S, va_rf_cat, cat_i, cat_a, cat_l, cat_f, fin4_0, fin4_1, fin4_2, fin4_3]) ?_
    refine gk_iload_n (pc := 25) C.1 1 dX12_size_25 rfl rfl ?_
    refine gk_qload (pc := 26) C.1 0 dX12_size_26 rfl ?_
    obtain ⟨a_4, rfl, hw⟩ := hw
    refine gc_X12_19 (pc := 28) (As := []) (rest := [.int x1]) C hCl (Nat.le_refl _) hw rfl rfl (Nat.le_of_ble_eq_true rfl) dX12_size_28 (fun v9 h_5 hp => ?_) (fun q_7 h_8 hw ht9 => ?_)
    rotate_left
    · exact gx_out C S0 (by rw [hTb]; decide) ht9 hw
    clear hw
    obtain ⟨r_6, rfl, hw⟩ := hp
    refine GK.at (p2 := 31) rfl ?_
    refine gk_iadd (pc := 31) C.1 dX12_size_31 ?_
    obtain ⟨x_9, ex_9⟩ : ∃ z : Int32, z = x1 + r_6 := ⟨_, rfl⟩
    rw [← ex_9]
    replace hw := hw x_9 ex_9
    refine gk_istore_n (pc := 32) (lv' := [(1, Value.int x_9), (5, Value.ref a_4), (2, Value.ref a_2), (3, Value.int x3), (4, Value.int x4)]) C.1 dX12_size_32 rfl (by rw [hXn]; decide) (by first | rfl | simp [va_rf_S, va_rf_cat, cat_i, cat_a, cat_l, cat_f, fin4_0, fin4_1, fin4_2, fin4_3]) ?_
    obtain ⟨x_10, ex_10⟩ : ∃ z : Int32, z = x4 + 1 := ⟨_, rfl⟩
    replace hw := hw x_10 ex_10
    refine gk_iinc (pc := 33) (v := x_10) (lv' := [(4, Value.int x_10), (1, Value.int x_9), (5, Value.ref a_4), (2, Value.ref a_2), (3, Value.int x3)]) C.1 4 dX12_size_33 rfl (by rw [ex_10]; rfl) (by rw [hXn]; decide) (by first | rfl | simp [va_rf_S, va_rf_cat, cat_i, cat_a, cat_l, cat_f, fin4_0, fin4_1, fin4_2, fin4_3]) ?_
    refine gk_goto (pc := 36) (tgt := 13) C.1 dX12_size_36 (by decide) ?_
    refine GK.sub (lv' := [(1, .int x_9), (2, va_rf (some a_2)), (3, .int x3), (4, .int x_10)]) [1, 3, 4, 0] rfl ?_
    exact ih _ _ _ _ _ hw
def wb_X12_size (cl : CT) (lm : Nat × Nat) (Q : QT) (E : ET) (x0 : Nat) (h : HS) : Prop := (hT h x0 = 5) ∧ (∀ r_1 : Option Nat, r_1 = hR h 20 x0 → (∃ a_2 : Nat, r_1 = some a_2 ∧ (hT h a_2 = 114 ∧ (∀ x_3 : Int32, x_3 = nI (hN h a_2) → (∃ fu : Nat, wb_X12_size_13 cl lm Q E fu 1 (some a_2) x_3 0 h)))))
theorem wx_X12_size {l : Launch} (hst : l.stackTraces = false) {G : GG} {cl : CT} {lm : Nat × Nat} {Q : QT} {E : ET} {d2 : Nat} (hCl : CallsOK l G d2 cl ∧ hLm G lm ∧ 8 ≤ d2 ∧ LamsOK l G d2 cl) {x0 : Nat} {h : HS} (hw : wb_X12_size cl lm Q E x0 h) : HMet l G yX12_size (ws_ yX12_size cX12_size 6 ((Option.some Jvm.ClassFile.FieldType.int))) (d2 + 1) [.ref x0] h Q E := by
  refine gh_met (own := RX12) rfl (by decide +kernel) hst (by simp only [lg_sl_i, lg_sl_r, lg_sl_a, lg_sl_2, lg_sl_f, lg_sl_0]; decide) (fun X hXl hXn hret hnm hTb h0 eh C S0 => ?_)
  subst hXl
  have hlm := hCl.2.1
  have hd8 := hCl.2.2.1
  have hd2 : 1 ≤ d2 := Nat.le_trans (by decide) hd8
  have hLa := hCl.2.2.2
  have hd1 : 1 ≤ d2 + 1 := Nat.le_add_left _ _
  have hC9 := hCl
  replace hCl := hCl.1
  have hini : True := trivial
  unfold wb_X12_size at hw
  refine GK.sub (lv' := [(0, .ref x0)]) [0] (by simp only [lv_args_i, lv_args_r, lv_args_a, lv_args_l, lv_args_f, lv_args_0]; rfl) ?_
  refine gk_iconst (pc := 0) (v := 1) C.1 dX12_size_0 (by decide) ?_
  refine gk_istore_n (pc := 1) (lv' := [(1, Value.int 1), (0, Value.ref x0)]) C.1 dX12_size_1 rfl (by rw [hXn]; decide) (by first | rfl | simp [va_rf_S, va_rf_cat, cat_i, cat_a, cat_l, cat_f, fin4_0, fin4_1, fin4_2, fin4_3]) ?_
  refine gk_aload_n (pc := 2) C.1 1 dX12_size_2 rfl rfl ?_
  obtain ⟨ht, hw⟩ := hw
  refine gf_X12_9 (pc := 3) C ht dX12_size_3 (fun r_1 er_1 => ?_)
  replace hw := hw r_1 er_1
  refine gk_qstore_n (pc := 6) (lv' := [(2, va_rf r_1), (1, Value.int 1), (0, Value.ref x0)]) C.1 dX12_size_6 rfl (by rw [hXn]; decide) (by first | rfl | simp [va_rf_S, va_rf_cat, cat_i, cat_a, cat_l, cat_f, fin4_0, fin4_1, fin4_2, fin4_3]) ?_
  refine gk_qload_n (pc := 7) C.1 0 dX12_size_7 rfl rfl ?_
  obtain ⟨a_2, rfl, hw⟩ := hw
  obtain ⟨ht, hw⟩ := hw
  refine gh_len (pc := 8) (t0 := 6) (ty := tyA 114) C ht (by decide) rfl dX12_size_8 ?_
  obtain ⟨x_3, ex_3⟩ : ∃ z : Int32, z = nI (hN h a_2) := ⟨_, rfl⟩
  rw [← ex_3]
  replace hw := hw x_3 ex_3
  refine gk_istore_n (pc := 9) (lv' := [(3, Value.int x_3), (2, Value.ref a_2), (1, Value.int 1), (0, Value.ref x0)]) C.1 dX12_size_9 rfl (by rw [hXn]; decide) (by first | rfl | simp [va_rf_S, va_rf_cat, cat_i, cat_a, cat_l, cat_f, fin4_0, fin4_1, fin4_2, fin4_3]) ?_
  refine gk_iconst (pc := 10) (v := 0) C.1 dX12_size_10 (by decide) ?_
  refine gk_istore (pc := 11) (lv' := [(4, Value.int 0), (3, Value.int x_3), (2, Value.ref a_2), (1, Value.int 1), (0, Value.ref x0)]) C.1 dX12_size_11 (by rw [hXn]; decide) (by first | rfl | simp [va_rf_S, va_rf_cat, cat_i, cat_a, cat_l, cat_f, fin4_0, fin4_1, fin4_2, fin4_3]) ?_
  refine GK.sub (lv' := [(1, .int 1), (2, va_rf (some a_2)), (3, .int x_3), (4, .int 0)]) [3, 2, 1, 0] rfl ?_
  obtain ⟨n9, hw⟩ := hw
  exact wk_X12_size_13 C hC9 S0 hret hXn hini hTb  n9 _ _ _ _ _ hw
/-! 219: GathersAllFaults$Lst.step(I)LGathersAllFaults$Value; -/
def wb_X12_step (cl : CT) (lm : Nat × Nat) (Q : QT) (E : ET) (x0 : Nat) (x1 : Int32) (h : HS) : Prop := ∀ x_1 : Int32, x_1 = (x1 - 1) - 5 → ((hT h x0 = 5) ∧ (∀ r_2 : Option Nat, r_2 = hR h 20 x0 → (∃ a_3 : Nat, r_2 = some a_3 ∧ (hT h a_3 = 114 ∧ (cl 78 [.long ((x_1 : Int32).toInt64), .long 0, .long (((nI (hN h a_3)) - 1 : Int32).toInt64)] h (gI (fun r_5 h_4 => ((r_5 = 0 → (Q (some (va_rf none)) h_4)) ∧ (¬ r_5 = 0 → ((hT h_4 x0 = 5) ∧ (∀ r_9 : Option Nat, r_9 = hR h_4 20 x0 → (∃ a_10 : Nat, r_9 = some a_10 ∧ (hT h_4 a_10 = 114 ∧ (vp_in x_1 (hN h_4 a_10) ∧ (∀ r_11 : Option Nat, r_11 = hB h_4 a_10 x_1.toNatClampNeg → (Q (some (va_rf r_11)) h_4))))))))))) E)))))
theorem wx_X12_step {l : Launch} (hst : l.stackTraces = false) {G : GG} {cl : CT} {lm : Nat × Nat} {Q : QT} {E : ET} {d2 : Nat} (hCl : CallsOK l G d2 cl ∧ hLm G lm ∧ 8 ≤ d2 ∧ LamsOK l G d2 cl) {x0 : Nat} {x1 : Int32} {h : HS} (hw : wb_X12_step cl lm Q E x0 x1 h) : HMet l G yX12_step (ws_ yX12_step cX12_step 3 ((Option.some (Jvm.ClassFile.FieldType.object "GathersAllFaults$Value")))) (d2 + 1) [.ref x0, .int x1] h Q E := by
  refine gh_met (own := RX12) rfl (by decide +kernel) hst (by simp only [lg_sl_i, lg_sl_r, lg_sl_a, lg_sl_2, lg_sl_f, lg_sl_0]; decide) (fun X hXl hXn hret hnm hTb h0 eh C S0 => ?_)
  subst hXl
  have hlm := hCl.2.1
  have hd8 := hCl.2.2.1
  have hd2 : 1 ≤ d2 := Nat.le_trans (by decide) hd8
  have hLa := hCl.2.2.2
  have hd1 : 1 ≤ d2 + 1 := Nat.le_add_left _ _
  have hC9 := hCl
  replace hCl := hCl.1
  have hini : True := trivial
  unfold wb_X12_step at hw
  refine GK.sub (lv' := [(0, .ref x0), (1, .int x1)]) [0, 1] (by simp only [lv_args_i, lv_args_r, lv_args_a, lv_args_l, lv_args_f, lv_args_0]; rfl) ?_
  refine gk_iload_n (pc := 0) C.1 1 dX12_step_0 rfl rfl ?_
  refine gk_iconst (pc := 1) (v := 1) C.1 dX12_step_1 (by decide) ?_
  refine gk_isub (pc := 2) C.1 dX12_step_2 ?_
  refine gk_iconst (pc := 3) (v := 5) C.1 dX12_step_3 (by decide) ?_
  refine gk_isub (pc := 4) C.1 dX12_step_4 ?_
  obtain ⟨x_1, ex_1⟩ : ∃ z : Int32, z = (x1 - 1) - 5 := ⟨_, rfl⟩
  rw [← ex_1]
  replace hw := hw x_1 ex_1
  refine gk_istore_n (pc := 5) (lv' := [(2, Value.int x_1), (0, Value.ref x0), (1, Value.int x1)]) C.1 dX12_step_5 rfl (by rw [hXn]; decide) (by first | rfl | simp [va_rf_S, va_rf_cat, cat_i, cat_a, cat_l, cat_f, fin4_0, fin4_1, fin4_2, fin4_3]) ?_
  refine gk_iload_n (pc := 6) C.1 0 dX12_step_6 rfl rfl ?_
  refine gk_i2l (pc := 7) C.1 dX12_step_7 ?_
  refine gk_lconst (pc := 8) (v := 0) C.1 dX12_step_8 (by decide) ?_
  refine gk_aload_n (pc := 9) C.1 1 dX12_step_9 rfl rfl ?_
  obtain ⟨ht, hw⟩ := hw
  refine gf_X12_9 (pc := 10) C ht dX12_step_10 (fun r_2 er_2 => ?_)
  replace hw := hw r_2 er_2
  obtain ⟨a_3, rfl, hw⟩ := hw
  obtain ⟨ht, hw⟩ := hw
  refine gh_len (pc := 13) (t0 := 6) (ty := tyA 114) C ht (by decide) rfl dX12_step_13 ?_
  refine gk_iconst (pc := 14) (v := 1) C.1 dX12_step_14 (by decide) ?_
  refine gk_isub (pc := 15) C.1 dX12_step_15 ?_
  refine gk_i2l (pc := 16) C.1 dX12_step_16 ?_
  refine gc_X12_26 (pc := 17) (As := [.long ((x_1 : Int32).toInt64), .long 0, .long (((nI (hN h a_3)) - 1 : Int32).toInt64)]) (rest := []) C hCl (Nat.le_refl _) hw rfl rfl (Nat.le_of_ble_eq_true rfl) dX12_step_17 (fun v9 h_4 hp => ?_) (fun q_6 h_7 hw ht9 => ?_)
  rotate_left
  · exact gx_out C S0 (by rw [hTb]; decide) ht9 hw
  clear hw
  obtain ⟨r_5, rfl, hw⟩ := hp
  refine GK.at (p2 := 20) rfl ?_
  refine gk_if_eq (pc := 20) (tgt := 32) C.1 dX12_step_20 (by decide) (fun c_8 => ?_) (fun c_8 => ?_)
  · replace hw := hw.1 c_8
    refine gk_null (pc := 32) C.1 dX12_step_32 ?_
    exact gh_aret (pc := 33) (r := none) C S0 hret (Or.inl ⟨_, rfl⟩) dX12_step_33 hw
  · replace hw := hw.2 c_8
    refine gk_aload_n (pc := 23) C.1 1 dX12_step_23 rfl rfl ?_
    obtain ⟨ht, hw⟩ := hw
    refine gf_X12_9 (pc := 24) C ht dX12_step_24 (fun r_9 er_9 => ?_)
    replace hw := hw r_9 er_9
    refine gk_iload_n (pc := 27) C.1 0 dX12_step_27 rfl rfl ?_
    obtain ⟨a_10, rfl, hw⟩ := hw
    obtain ⟨ht, hi, hw⟩ := hw
    refine gh_aald (pc := 28) (t0 := 6) (E := "GathersAllFaults$Value") C ht (by decide) (by decide) rfl hi dX12_step_28 ?_
    obtain ⟨r_11, er_11⟩ : ∃ z : Option Nat, z = hB h_4 a_10 x_1.toNatClampNeg := ⟨_, rfl⟩
    rw [← er_11]
    replace hw := hw r_11 er_11
    refine gk_goto (pc := 29) (tgt := 33) C.1 dX12_step_29 (by decide) ?_
    exact gh_aret (pc := 33) (r := r_11) C S0 hret (Or.inl ⟨_, rfl⟩) dX12_step_33 hw
