set_option maxRecDepth 100000
/-! 240: GathersAllFaults$Finding.<init>(LGathersAllFaults$Sink;)V -/
def wb_X17_init (cl : CT) (lm : Nat × Nat) (Q : QT) (E : ET) (x0 : Nat) (x1 : Option Nat) (h : HS) : Prop := hZ h + 1 ≤ lm.1 ∧ (hL h + 2 ≤ lm.2 ∧ (∀ (a_2 : Nat) (h_1 : HS), a_2 = hZ h → h_1 = hNew h 7 0 2 → (cl 247 (.ref a_2 :: []) h_1 (gV (fun h_3 => (hT h_3 x0 = 9) ∧ (∀ h_6 : HS, h_6 = sR h_3 28 x0 (some a_2) → ((hT h_6 x0 = 9) ∧ (∀ h_7 : HS, h_7 = sR h_6 27 x0 x1 → (Q none h_7)))))) E)))
theorem wx_X17_init {l : Launch} (hst : l.stackTraces = false) {G : GG} {cl : CT} {lm : Nat × Nat} {Q : QT} {E : ET} {d2 : Nat} (hCl : CallsOK l G d2 cl ∧ hLm G lm ∧ 8 ≤ d2 ∧ LamsOK l G d2 cl) {x0 : Nat} {x1 : Option Nat} {h : HS} (hw : wb_X17_init cl lm Q E x0 x1 h) : HMet l G yX17_init (ws_ yX17_init cX17_init 2 ((Option.none : Option Jvm.ClassFile.FieldType))) (d2 + 1) [.ref x0, va_rf x1] h Q E := by
  refine gh_met (own := RX17) rfl (by decide +kernel) hst (by simp only [lg_sl_i, lg_sl_r, lg_sl_a, lg_sl_2, lg_sl_f, lg_sl_0]; decide) (fun X hXl hXn hret hnm hTb h0 eh C S0 => ?_)
  subst hXl
  have hlm := hCl.2.1
  have hd8 := hCl.2.2.1
  have hd2 : 1 ≤ d2 := Nat.le_trans (by decide) hd8
  have hLa := hCl.2.2.2
  have hd1 : 1 ≤ d2 + 1 := Nat.le_add_left _ _
  have hC9 := hCl
  replace hCl := hCl.1
  have hini : (ev_h X).name = "<init>" := hnm.1
  unfold wb_X17_init at hw
  refine GK.sub (lv' := [(0, .ref x0), (1, va_rf x1)]) [0, 1] (by simp only [lv_args_i, lv_args_r, lv_args_a, lv_args_l, lv_args_f, lv_args_0]; rfl) ?_
  refine gk_aload_n (pc := 0) C.1 0 dX17_init_0 rfl rfl ?_
  refine gh_obj (pc := 1) C hd1 q1410 (Nat.le_of_ble_eq_true rfl) dX17_init_1 ?_
  refine gk_aload_n (pc := 4) C.1 0 dX17_init_4 rfl rfl ?_
  obtain ⟨hr1, hr2, hw⟩ := hw
  refine gn_X17_7 (pc := 5) C (hlm.1 ▸ hr1) (hlm.2 ▸ hr2) dX17_init_5 (fun h_1 eh_1 => ?_)
  obtain ⟨a_2, ea_2⟩ : ∃ z : Nat, z = hZ h := ⟨_, rfl⟩
  rw [← ea_2]
  replace hw := hw a_2 h_1 ea_2 eh_1
  refine gk_dup (pc := 8) C.1 dX17_init_8 rfl ?_
  refine gc_X17_9 (pc := 9) (As := []) (rest := [.ref a_2, .ref x0]) C hCl (Nat.le_refl _) hw rfl rfl (Nat.le_of_ble_eq_true rfl) dX17_init_9 (fun v9 h_3 hp => ?_) (fun q_4 h_5 hw ht9 => ?_)
  rotate_left
  · exact gx_out C S0 (by rw [hTb]; decide) ht9 hw
  clear hw
  obtain ⟨rfl, hw⟩ := hp
  refine GK.at (p2 := 12) rfl ?_
  obtain ⟨ht, hw⟩ := hw
  refine gfp_X17_10 (pc := 12) (r := (some a_2)) C hini ht dX17_init_12 (fun h_6 eh_6 => ?_)
  replace hw := hw h_6 eh_6
  refine gk_aload_n (pc := 15) C.1 0 dX17_init_15 rfl rfl ?_
  refine gk_qload_n (pc := 16) C.1 1 dX17_init_16 rfl rfl ?_
  obtain ⟨ht, hw⟩ := hw
  refine gfp_X17_16 (pc := 17) (r := x1) C hini ht dX17_init_17 (fun h_7 eh_7 => ?_)
  replace hw := hw h_7 eh_7
  exact gh_vret (pc := 20) C S0 hret dX17_init_20 hw
/-! 241: GathersAllFaults$Finding.isNone()Z -/
def wb_X17_isNone (cl : CT) (lm : Nat × Nat) (Q : QT) (E : ET) (x0 : Nat) (h : HS) : Prop := (hT h x0 = 9) ∧ (∀ r_1 : Option Nat, r_1 = hR h 28 x0 → (∃ a_2 : Nat, r_1 = some a_2 ∧ ((hT h a_2 = 7) ∧ (((¬ (hI h 24 a_2) = 0 → (Q (some (.int 0)) h)) ∧ ((hI h 24 a_2) = 0 → (Q (some (.int 1)) h)))))))
theorem wx_X17_isNone {l : Launch} (hst : l.stackTraces = false) {G : GG} {cl : CT} {lm : Nat × Nat} {Q : QT} {E : ET} {d2 : Nat} (hCl : CallsOK l G d2 cl ∧ hLm G lm ∧ 8 ≤ d2 ∧ LamsOK l G d2 cl) {x0 : Nat} {h : HS} (hw : wb_X17_isNone cl lm Q E x0 h) : HMet l G yX17_isNone (ws_ yX17_isNone cX17_isNone 1 ((Option.some Jvm.ClassFile.FieldType.boolean))) (d2 + 1) [.ref x0] h Q E := by
  refine gh_met (own := RX17) rfl (by decide +kernel) hst (by simp only [lg_sl_i, lg_sl_r, lg_sl_a, lg_sl_2, lg_sl_f, lg_sl_0]; decide) (fun X hXl hXn hret hnm hTb h0 eh C S0 => ?_)
  subst hXl
  have hlm := hCl.2.1
  have hd8 := hCl.2.2.1
  have hd2 : 1 ≤ d2 := Nat.le_trans (by decide) hd8
  have hLa := hCl.2.2.2
  have hd1 : 1 ≤ d2 + 1 := Nat.le_add_left _ _
  have hC9 := hCl
  replace hCl := hCl.1
  have hini : True := trivial
  unfold wb_X17_isNone at hw
  refine GK.sub (lv' := [(0, .ref x0)]) [0] (by simp only [lv_args_i, lv_args_r, lv_args_a, lv_args_l, lv_args_f, lv_args_0]; rfl) ?_
  refine gk_aload_n (pc := 0) C.1 0 dX17_isNone_0 rfl rfl ?_
  obtain ⟨ht, hw⟩ := hw
  refine gf_X17_10 (pc := 1) C ht dX17_isNone_1 (fun r_1 er_1 => ?_)
  replace hw := hw r_1 er_1
  obtain ⟨a_2, rfl, hw⟩ := hw
  obtain ⟨ht, hw⟩ := hw
  refine gf_X17_37 (pc := 4) C ht dX17_isNone_4 ?_
  refine gk_if_ne (pc := 7) (tgt := 14) C.1 dX17_isNone_7 (by decide) (fun c_3 => ?_) (fun c_3 => ?_)
  · replace hw := hw.1 c_3
    refine gk_iconst (pc := 14) (v := 0) C.1 dX17_isNone_14 (by decide) ?_
    exact gh_zret (pc := 15) C S0 hret dX17_isNone_15 bz0 hw
  · replace hw := hw.2 c_3
    refine gk_iconst (pc := 10) (v := 1) C.1 dX17_isNone_10 (by decide) ?_
    refine gk_goto (pc := 11) (tgt := 15) C.1 dX17_isNone_11 (by decide) ?_
    exact gh_zret (pc := 15) C S0 hret dX17_isNone_15 bz1 hw
/-! 242: GathersAllFaults$Row.add(LGathersAllFaults$Placed;)V -/
def wb_X18_add_41 (cl : CT) (lm : Nat × Nat) (Q : QT) (E : ET) (x0 : Nat) (x1 : Option Nat) (h : HS) : Prop := (hT h x0 = 7) ∧ (∀ r_1 : Option Nat, r_1 = hR h 23 x0 → ((hT h x0 = 7) ∧ (∃ a_2 : Nat, r_1 = some a_2 ∧ (hT h a_2 = 111 ∧ (vp_in (hI h 24 x0) (hN h a_2) ∧ (as_Obj h x1 ∧ (∀ h_3 : HS, h_3 = sB h a_2 (hI h 24 x0).toNatClampNeg x1 → ((hT h_3 x0 = 7) ∧ ((hT h_3 x0 = 7) ∧ (∀ h_4 : HS, h_4 = sI h_3 24 x0 ((hI h_3 24 x0) + 1) → (Q none h_4)))))))))))
theorem wk_X18_add_41 {X : Ev} {G : GG} {cl : CT} {lm : Nat × Nat} {Q : QT} {E : ET} {h0 : HS} {d2 : Nat} (C : HC X G RX18 cX18_add (d2 + 1)) (hCl : CallsOK (ev_l X) G d2 cl ∧ hLm G lm ∧ 8 ≤ d2 ∧ LamsOK (ev_l X) G d2 cl) (S0 : HS0 X h0) (hret : (ev_h X).sig.returnType = (Option.none : Option Jvm.ClassFile.FieldType)) (hXn : ev_n X = 3) (hini : True) (hTb : (ev_c X).exceptionTable.toList = []) : ∀ (x0 : Nat) (x1 : Option Nat) (h : HS), wb_X18_add_41 cl lm Q E x0 x1 h → GH X G h (hQ X G h0 Q E) 41 [(0, .ref x0), (1, va_rf x1)] [] := by
  have hlm := hCl.2.1
  have hd8 := hCl.2.2.1
  have hd2 : 1 ≤ d2 := Nat.le_trans (by decide) hd8
  have hLa := hCl.2.2.2
  have hd1 : 1 ≤ d2 + 1 := Nat.le_add_left _ _
  have hC9 := hCl
  replace hCl := hCl.1
  intro x0 x1 h hw
  unfold wb_X18_add_41 at hw
  refine gk_aload_n (pc := 41) C.1 0 dX18_add_41 rfl rfl ?_
  obtain ⟨ht, hw⟩ := hw
  refine gf_X18_9 (pc := 42) C ht dX18_add_42 (fun r_1 er_1 => ?_)
  replace hw := hw r_1 er_1
  refine gk_aload_n (pc := 45) C.1 0 dX18_add_45 rfl rfl ?_
  obtain ⟨ht, hw⟩ := hw
  refine gf_X18_15 (pc := 46) C ht dX18_add_46 ?_
  refine gk_qload_n (pc := 49) C.1 1 dX18_add_49 rfl rfl ?_
  obtain ⟨a_2, rfl, hw⟩ := hw
  obtain ⟨ht, hi, hs, hw⟩ := hw
  refine gh_aast (pc := 50) (r := x1) (t0 := 3) (E := "java/lang/Object") C ht (by decide) (by decide) rfl (as_Obj_ok hs) hi dX18_add_50 ?_
  obtain ⟨h_3, eh_3⟩ : ∃ z : HS, z = sB h a_2 (hI h 24 x0).toNatClampNeg x1 := ⟨_, rfl⟩
  rw [← eh_3]
  replace hw := hw h_3 eh_3
  refine gk_aload_n (pc := 51) C.1 0 dX18_add_51 rfl rfl ?_
  refine gk_dup (pc := 52) C.1 dX18_add_52 rfl ?_
  obtain ⟨ht, hw⟩ := hw
  refine gf_X18_15 (pc := 53) C ht dX18_add_53 ?_
  refine gk_iconst (pc := 56) (v := 1) C.1 dX18_add_56 (by decide) ?_
  refine gk_iadd (pc := 57) C.1 dX18_add_57 ?_
  obtain ⟨ht, hw⟩ := hw
  refine gfp_X18_15 (pc := 58) C ht dX18_add_58 (fun h_4 eh_4 => ?_)
  replace hw := hw h_4 eh_4
  exact gh_vret (pc := 61) C S0 hret dX18_add_61 hw
def wb_X18_add (cl : CT) (lm : Nat × Nat) (Q : QT) (E : ET) (x0 : Nat) (x1 : Option Nat) (h : HS) : Prop := (hT h x0 = 7) ∧ ((hT h x0 = 7) ∧ (∀ r_1 : Option Nat, r_1 = hR h 23 x0 → (∃ a_2 : Nat, r_1 = some a_2 ∧ (hT h a_2 = 111 ∧ (((¬ (hI h 24 x0) = (nI (hN h a_2)) → (wb_X18_add_41 cl lm Q E x0 x1 h)) ∧ ((hI h 24 x0) = (nI (hN h a_2)) → ((hT h x0 = 7) ∧ (¬ (2 * (hI h 24 x0)) < 0 ∧ ((2 * (hI h 24 x0)).toNatClampNeg * 4 ≤ 536870912 ∧ (hZ h + 1 ≤ lm.1 ∧ (hL h + (2 * (hI h 24 x0)).toNatClampNeg ≤ lm.2 ∧ (∀ (a_5 : Nat) (h_4 : HS), a_5 = hZ h → h_4 = hNew h 111 (2 * (hI h 24 x0)).toNatClampNeg (2 * (hI h 24 x0)).toNatClampNeg → ((hT h_4 x0 = 7) ∧ (∀ r_6 : Option Nat, r_6 = hR h_4 23 x0 → ((hT h_4 x0 = 7) ∧ (∃ a_7 : Nat, r_6 = some a_7 ∧ (hT h_4 a_7 = 111 ∧ (hT h_4 a_5 = 111 ∧ (¬ (0 : Int32) < 0 ∧ (¬ (0 : Int32) < 0 ∧ (¬ (hI h_4 24 x0) < 0 ∧ ((0 : Int32).toNatClampNeg + (hI h_4 24 x0).toNatClampNeg ≤ hN h_4 a_7 ∧ ((0 : Int32).toNatClampNeg + (hI h_4 24 x0).toNatClampNeg ≤ hN h_4 a_5 ∧ ((∀ i : Nat, i < (hI h_4 24 x0).toNatClampNeg → as_Obj h_4 (hB h_4 a_7 ((0 : Int32).toNatClampNeg + i))) ∧ (∀ h_8 : HS, h_8 = sCpy h_4 a_5 a_7 (0 : Int32).toNatClampNeg (0 : Int32).toNatClampNeg (hI h_4 24 x0).toNatClampNeg → ((hT h_8 x0 = 7) ∧ (∀ h_9 : HS, h_9 = sR h_8 23 x0 (some a_5) → (wb_X18_add_41 cl lm Q E x0 x1 h_9)))))))))))))))))))))))))))))
theorem wx_X18_add {l : Launch} (hst : l.stackTraces = false) {G : GG} {cl : CT} {lm : Nat × Nat} {Q : QT} {E : ET} {d2 : Nat} (hCl : CallsOK l G d2 cl ∧ hLm G lm ∧ 8 ≤ d2 ∧ LamsOK l G d2 cl) {x0 : Nat} {x1 : Option Nat} {h : HS} (hw : wb_X18_add cl lm Q E x0 x1 h) : HMet l G yX18_add (ws_ yX18_add cX18_add 3 ((Option.none : Option Jvm.ClassFile.FieldType))) (d2 + 1) [.ref x0, va_rf x1] h Q E := by
  refine gh_met (own := RX18) rfl (by decide +kernel) hst (by simp only [lg_sl_i, lg_sl_r, lg_sl_a, lg_sl_2, lg_sl_f, lg_sl_0]; decide) (fun X hXl hXn hret hnm hTb h0 eh C S0 => ?_)
  subst hXl
  have hlm := hCl.2.1
  have hd8 := hCl.2.2.1
  have hd2 : 1 ≤ d2 := Nat.le_trans (by decide) hd8
  have hLa := hCl.2.2.2
  have hd1 : 1 ≤ d2 + 1 := Nat.le_add_left _ _
  have hC9 := hCl
  replace hCl := hCl.1
  have hini : True := trivial
  unfold wb_X18_add at hw
  refine GK.sub (lv' := [(0, .ref x0), (1, va_rf x1)]) [0, 1] (by simp only [lv_args_i, lv_args_r, lv_args_a, lv_args_l, lv_args_f, lv_args_0]; rfl) ?_
  refine gk_aload_n (pc := 0) C.1 0 dX18_add_0 rfl rfl ?_
  obtain ⟨ht, hw⟩ := hw
  refine gf_X18_15 (pc := 1) C ht dX18_add_1 ?_
  refine gk_aload_n (pc := 4) C.1 0 dX18_add_4 rfl rfl ?_
  obtain ⟨ht, hw⟩ := hw
  refine gf_X18_9 (pc := 5) C ht dX18_add_5 (fun r_1 er_1 => ?_)
  replace hw := hw r_1 er_1
  obtain ⟨a_2, rfl, hw⟩ := hw
  obtain ⟨ht, hw⟩ := hw
  refine gh_len (pc := 8) (t0 := 3) (ty := tyA 111) C ht (by decide) rfl dX18_add_8 ?_
  refine gk_icmp_ne (pc := 9) (tgt := 41) C.1 dX18_add_9 (by decide) (fun c_3 => ?_) (fun c_3 => ?_)
  · replace hw := hw.1 c_3
    refine GK.sub (lv' := [(0, .ref x0), (1, va_rf x1)]) [0, 1] rfl ?_
    exact wk_X18_add_41 C hC9 S0 hret hXn hini hTb  _ _ _ hw
  · replace hw := hw.2 c_3
    refine gk_iconst (pc := 12) (v := 2) C.1 dX18_add_12 (by decide) ?_
    refine gk_aload_n (pc := 13) C.1 0 dX18_add_13 rfl rfl ?_
    obtain ⟨ht, hw⟩ := hw
    refine gf_X18_15 (pc := 14) C ht dX18_add_14 ?_
    refine gk_imul (pc := 17) C.1 dX18_add_17 ?_
    obtain ⟨hn0, hby, hr1, hr2, hw⟩ := hw
    refine gh_anew (pc := 18) (t := 111) (t0 := 3) (E := "java/lang/Object") C ⟨by decide, by decide⟩ rfl q1292 q1293 hn0 hby (hlm.1 ▸ hr1) (hlm.2 ▸ hr2) dX18_add_18 ?_
    obtain ⟨h_4, eh_4⟩ : ∃ z : HS, z = hNew h 111 (2 * (hI h 24 x0)).toNatClampNeg (2 * (hI h 24 x0)).toNatClampNeg := ⟨_, rfl⟩
    rw [← eh_4]
    obtain ⟨a_5, ea_5⟩ : ∃ z : Nat, z = hZ h := ⟨_, rfl⟩
    rw [← ea_5]
    replace hw := hw a_5 h_4 ea_5 eh_4
    refine gk_astore_n (pc := 21) (lv' := [(2, Value.ref a_5), (0, Value.ref x0), (1, va_rf x1)]) C.1 dX18_add_21 rfl (by rw [hXn]; decide) (by first | rfl | simp [va_rf_S, va_rf_cat, cat_i, cat_a, cat_l, cat_f, fin4_0, fin4_1, fin4_2, fin4_3]) ?_
    refine gk_aload_n (pc := 22) C.1 1 dX18_add_22 rfl rfl ?_
    obtain ⟨ht, hw⟩ := hw
    refine gf_X18_9 (pc := 23) C ht dX18_add_23 (fun r_6 er_6 => ?_)
    replace hw := hw r_6 er_6
    refine gk_iconst (pc := 26) (v := 0) C.1 dX18_add_26 (by decide) ?_
    refine gk_aload_n (pc := 27) C.1 0 dX18_add_27 rfl rfl ?_
    refine gk_iconst (pc := 28) (v := 0) C.1 dX18_add_28 (by decide) ?_
    refine gk_aload_n (pc := 29) C.1 1 dX18_add_29 rfl rfl ?_
    obtain ⟨ht, hw⟩ := hw
    refine gf_X18_15 (pc := 30) C ht dX18_add_30 ?_
    obtain ⟨a_7, rfl, hw⟩ := hw
    obtain ⟨z1, z2, z3, z4, z5, z6, z7, z8, hw⟩ := hw
    refine gh_copy (pc := 33) (t0 := 3) (E := "java/lang/Object") C q1294 q1211 q1210 q171 z1 z2 (by decide) (by decide) rfl z3 z4 z5 z6 z7 (fun i hi y hy => as_Obj_ok (z8 i hi) y hy) hd1 (Nat.le_of_ble_eq_true rfl) dX18_add_33 ?_
    obtain ⟨h_8, eh_8⟩ : ∃ z : HS, z = sCpy h_4 a_5 a_7 (0 : Int32).toNatClampNeg (0 : Int32).toNatClampNeg (hI h_4 24 x0).toNatClampNeg := ⟨_, rfl⟩
    rw [← eh_8]
    replace hw := hw h_8 eh_8
    refine gk_aload_n (pc := 36) C.1 1 dX18_add_36 rfl rfl ?_
    refine gk_aload_n (pc := 37) C.1 0 dX18_add_37 rfl rfl ?_
    obtain ⟨ht, hw⟩ := hw
    refine gfp_X18_9 (pc := 38) (r := (some a_5)) C ht dX18_add_38 (fun h_9 eh_9 => ?_)
    replace hw := hw h_9 eh_9
    refine GK.sub (lv' := [(0, .ref x0), (1, va_rf x1)]) [1, 2] rfl ?_
    exact wk_X18_add_41 C hC9 S0 hret hXn hini hTb  _ _ _ hw
/-! 243: GathersAllFaults$Row.addAll(LGathersAllFaults$Row;)V -/
def wb_X18_addAll_2 (cl : CT) (lm : Nat × Nat) (Q : QT) (E : ET) : Nat → Nat → Option Nat → Int32 → HS → Prop
  | 0 => fun _ _ _ _ => False
  | n + 1 => fun x0 x1 x2 h => ∃ a_1 : Nat, x1 = some a_1 ∧ ((hT h a_1 = 7) ∧ ((((hI h 24 a_1) ≤ x2 → (Q none h)) ∧ (¬ (hI h 24 a_1) ≤ x2 → (dp_Row_at cl a_1 [.int x2] h (gR (fun r_4 h_3 => dp_Row_add cl x0 [va_rf r_4] h_3 (gV (fun h_7 => ∀ x_10 : Int32, x_10 = x2 + 1 → (wb_X18_addAll_2 cl lm Q E n x0 (some a_1) x_10 h_7))) E)) E)))))
theorem wk_X18_addAll_2 {X : Ev} {G : GG} {cl : CT} {lm : Nat × Nat} {Q : QT} {E : ET} {h0 : HS} {d2 : Nat} (C : HC X G RX18 cX18_addAll (d2 + 1)) (hCl : CallsOK (ev_l X) G d2 cl ∧ hLm G lm ∧ 8 ≤ d2 ∧ LamsOK (ev_l X) G d2 cl) (S0 : HS0 X h0) (hret : (ev_h X).sig.returnType = (Option.none : Option Jvm.ClassFile.FieldType)) (hXn : ev_n X = 3) (hini : True) (hTb : (ev_c X).exceptionTable.toList = []) : ∀ (n : Nat) (x0 : Nat) (x1 : Option Nat) (x2 : Int32) (h : HS), wb_X18_addAll_2 cl lm Q E n x0 x1 x2 h → GH X G h (hQ X G h0 Q E) 2 [(0, .ref x0), (1, va_rf x1), (2, .int x2)] [] := by
  have hlm := hCl.2.1
  have hd8 := hCl.2.2.1
  have hd2 : 1 ≤ d2 := Nat.le_trans (by decide) hd8
  have hLa := hCl.2.2.2
  have hd1 : 1 ≤ d2 + 1 := Nat.le_add_left _ _
  have hC9 := hCl
  replace hCl := hCl.1
  intro n
  induction n with
  | zero => intro x0 x1 x2 h hw; exact hw.elim
  | succ n ih =>
  intro x0 x1 x2 h hw
  unfold wb_X18_addAll_2 at hw
  refine gk_iload_n (pc := 2) C.1 2 dX18_addAll_2 rfl rfl ?_
  refine gk_qload_n (pc := 3) C.1 1 dX18_addAll_3 rfl rfl ?_
  obtain ⟨a_1, rfl, hw⟩ := hw
  obtain ⟨ht, hw⟩ := hw
  refine gf_X18_15 (pc := 4) C ht dX18_addAll_4 ?_
  refine gk_icmp_ge (pc := 7) (tgt := 25) C.1 dX18_addAll_7 (by decide) (fun c_2 => ?_) (fun c_2 => ?_)
  · replace hw := hw.1 c_2
    exact gh_vret (pc := 25) C S0 hret dX18_addAll_25 hw
  · replace hw := hw.2 c_2
    refine gk_aload_n (pc := 10) C.1 0 dX18_addAll_10 rfl rfl ?_
    refine gk_aload_n (pc := 11) C.1 1 dX18_addAll_11 rfl rfl ?_
    refine gk_iload_n (pc := 12) C.1 2 dX18_addAll_12 rfl rfl ?_
    refine gc_X18_38 (pc := 13) (As := [.int x2]) (rest := [.ref x0]) C hCl (Nat.le_refl _) hw rfl rfl (Nat.le_of_ble_eq_true rfl) dX18_addAll_13 (fun v9 h_3 hp => ?_) (fun q_5 h_6 hw ht9 => ?_)
    rotate_left
    · exact gx_out C S0 (by rw [hTb]; decide) ht9 hw
    clear hw
    obtain ⟨r_4, rfl, hw⟩ := hp
    refine GK.at (p2 := 16) rfl ?_
    refine gc_X18_42 (pc := 16) (As := [va_rf r_4]) (rest := []) C hCl (Nat.le_refl _) hw rfl rfl (Nat.le_of_ble_eq_true rfl) dX18_addAll_16 (fun v9 h_7 hp => ?_) (fun q_8 h_9 hw ht9 => ?_)
    rotate_left
    · exact gx_out C S0 (by rw [hTb]; decide) ht9 hw
    clear hw
    obtain ⟨rfl, hw⟩ := hp
    refine GK.at (p2 := 19) rfl ?_
    obtain ⟨x_10, ex_10⟩ : ∃ z : Int32, z = x2 + 1 := ⟨_, rfl⟩
    replace hw := hw x_10 ex_10
    refine gk_iinc (pc := 19) (v := x_10) (lv' := [(2, Value.int x_10), (0, Value.ref x0), (1, Value.ref a_1)]) C.1 2 dX18_addAll_19 rfl (by rw [ex_10]; rfl) (by rw [hXn]; decide) (by first | rfl | simp [va_rf_S, va_rf_cat, cat_i, cat_a, cat_l, cat_f, fin4_0, fin4_1, fin4_2, fin4_3]) ?_
    refine gk_goto (pc := 22) (tgt := 2) C.1 dX18_addAll_22 (by decide) ?_
    refine GK.sub (lv' := [(0, .ref x0), (1, va_rf (some a_1)), (2, .int x_10)]) [1, 2, 0] rfl ?_
    exact ih _ _ _ _ hw
def wb_X18_addAll (cl : CT) (lm : Nat × Nat) (Q : QT) (E : ET) (x0 : Nat) (x1 : Option Nat) (h : HS) : Prop := ∃ fu : Nat, wb_X18_addAll_2 cl lm Q E fu x0 x1 0 h
theorem wx_X18_addAll {l : Launch} (hst : l.stackTraces = false) {G : GG} {cl : CT} {lm : Nat × Nat} {Q : QT} {E : ET} {d2 : Nat} (hCl : CallsOK l G d2 cl ∧ hLm G lm ∧ 8 ≤ d2 ∧ LamsOK l G d2 cl) {x0 : Nat} {x1 : Option Nat} {h : HS} (hw : wb_X18_addAll cl lm Q E x0 x1 h) : HMet l G yX18_addAll (ws_ yX18_addAll cX18_addAll 3 ((Option.none : Option Jvm.ClassFile.FieldType))) (d2 + 1) [.ref x0, va_rf x1] h Q E := by
  refine gh_met (own := RX18) rfl (by decide +kernel) hst (by simp only [lg_sl_i, lg_sl_r, lg_sl_a, lg_sl_2, lg_sl_f, lg_sl_0]; decide) (fun X hXl hXn hret hnm hTb h0 eh C S0 => ?_)
  subst hXl
  have hlm := hCl.2.1
  have hd8 := hCl.2.2.1
  have hd2 : 1 ≤ d2 := Nat.le_trans (by decide) hd8
  have hLa := hCl.2.2.2
  have hd1 : 1 ≤ d2 + 1 := Nat.le_add_left _ _
  have hC9 := hCl
  replace hCl := hCl.1
  have hini : True := trivial
  unfold wb_X18_addAll at hw
  refine GK.sub (lv' := [(0, .ref x0), (1, va_rf x1)]) [0, 1] (by simp only [lv_args_i, lv_args_r, lv_args_a, lv_args_l, lv_args_f, lv_args_0]; rfl) ?_
  refine gk_iconst (pc := 0) (v := 0) C.1 dX18_addAll_0 (by decide) ?_
  refine gk_istore_n (pc := 1) (lv' := [(2, Value.int 0), (0, Value.ref x0), (1, va_rf x1)]) C.1 dX18_addAll_1 rfl (by rw [hXn]; decide) (by first | rfl | simp [va_rf_S, va_rf_cat, cat_i, cat_a, cat_l, cat_f, fin4_0, fin4_1, fin4_2, fin4_3]) ?_
  refine GK.sub (lv' := [(0, .ref x0), (1, va_rf x1), (2, .int 0)]) [1, 2, 0] rfl ?_
  obtain ⟨n9, hw⟩ := hw
  exact wk_X18_addAll_2 C hC9 S0 hret hXn hini hTb  n9 _ _ _ _ hw
/-! 244: GathersAllFaults$Row.at(I)LGathersAllFaults$Placed; -/
def wb_X18_at_20 (cl : CT) (lm : Nat × Nat) (Q : QT) (E : ET) (x2 : Option Nat) (s0 : Int32) (h : HS) : Prop := cl 104 [.int s0, .int (-1)] h (gV (fun h_1 => ck_GathersAllFaults_Placed h_1 x2 ∧ (Q (some (va_rf x2)) h_1))) (fun q_2 h_3 => hT h_3 q_2 = 16 ∧ E q_2 h_3)
theorem wk_X18_at_20 {X : Ev} {G : GG} {cl : CT} {lm : Nat × Nat} {Q : QT} {E : ET} {h0 : HS} {d2 : Nat} (C : HC X G RX18 cX18_at (d2 + 1)) (hCl : CallsOK (ev_l X) G d2 cl ∧ hLm G lm ∧ 8 ≤ d2 ∧ LamsOK (ev_l X) G d2 cl) (S0 : HS0 X h0) (hret : (ev_h X).sig.returnType = (Option.some (Jvm.ClassFile.FieldType.object "GathersAllFaults$Placed"))) (hXn : ev_n X = 3) (hini : True) (hTb : (ev_c X).exceptionTable.toList = tableOf [(0, 28, 29, 31)]) : ∀ (x2 : Option Nat) (s0 : Int32) (h : HS), wb_X18_at_20 cl lm Q E x2 s0 h → GH X G h (hQ X G h0 Q E) 20 [(2, va_rf x2)] [.int s0] := by
  have hlm := hCl.2.1
  have hd8 := hCl.2.2.1
  have hd2 : 1 ≤ d2 := Nat.le_trans (by decide) hd8
  have hLa := hCl.2.2.2
  have hd1 : 1 ≤ d2 + 1 := Nat.le_add_left _ _
  have hC9 := hCl
  replace hCl := hCl.1
  intro x2 s0 h hw
  unfold wb_X18_at_20 at hw
  refine gk_iconst (pc := 20) (v := (-1)) C.1 dX18_at_20 (by decide) ?_
  refine gc_X18_25 (pc := 21) (As := [.int s0, .int (-1)]) (rest := []) C hCl (Nat.le_refl _) hw rfl rfl (Nat.le_of_ble_eq_true rfl) dX18_at_21 (fun v9 h_1 hp => ?_) (fun q_2 h_3 hw ht9 => ?_)
  rotate_left
  · exact gx_outP C S0 (by rw [hTb]; intro z hz; simp only [tableOf, List.map_cons, List.map_nil, List.mem_cons, List.not_mem_nil, or_false] at hz; subst hz; exact Or.inr ⟨by decide, _, q1473, by decide +kernel⟩) hw.1 hw.2
  clear hw
  obtain ⟨rfl, hw⟩ := hp
  refine GK.at (p2 := 24) rfl ?_
  refine gk_qload_n (pc := 24) C.1 0 dX18_at_24 rfl rfl ?_
  obtain ⟨hs, hw⟩ := hw
  refine gh_ckc (pc := 25) (r := x2) C q1506 (ck_GathersAllFaults_Placed_ok hs) dX18_at_25 ?_
  exact gh_aret (pc := 28) (r := x2) C S0 hret (Or.inl ⟨_, rfl⟩) dX18_at_28 hw
def wb_X18_at_29 (cl : CT) (lm : Nat × Nat) (Q : QT) (E : ET) (s0 : Nat) (h : HS) : Prop := hZ h + 1 ≤ lm.1 ∧ (hL h + 7 ≤ lm.2 ∧ (∀ (a_2 : Nat) (h_1 : HS), a_2 = hZ h → h_1 = hNew h 16 0 7 → (cl 179 (.ref a_2 :: [.int (-1)]) h_1 (gV (fun h_3 => (hT h_3 a_2 = 16 ∨ hT h_3 a_2 = 17) ∧ (E a_2 h_3))) E)))
theorem wk_X18_at_29 {X : Ev} {G : GG} {cl : CT} {lm : Nat × Nat} {Q : QT} {E : ET} {h0 : HS} {d2 : Nat} (C : HC X G RX18 cX18_at (d2 + 1)) (hCl : CallsOK (ev_l X) G d2 cl ∧ hLm G lm ∧ 8 ≤ d2 ∧ LamsOK (ev_l X) G d2 cl) (S0 : HS0 X h0) (hret : (ev_h X).sig.returnType = (Option.some (Jvm.ClassFile.FieldType.object "GathersAllFaults$Placed"))) (hXn : ev_n X = 3) (hini : True) (hTb : (ev_c X).exceptionTable.toList = tableOf [(0, 28, 29, 31)]) : ∀ (s0 : Nat) (h : HS), wb_X18_at_29 cl lm Q E s0 h → GH X G h (hQ X G h0 Q E) 29 [] [.ref s0] := by
  have hlm := hCl.2.1
  have hd8 := hCl.2.2.1
  have hd2 : 1 ≤ d2 := Nat.le_trans (by decide) hd8
  have hLa := hCl.2.2.2
  have hd1 : 1 ≤ d2 + 1 := Nat.le_add_left _ _
  have hC9 := hCl
  replace hCl := hCl.1
  intro s0 h hw
  unfold wb_X18_at_29 at hw
  refine gk_astore_n (pc := 29) (lv' := [(2, Value.ref s0)]) C.1 dX18_at_29 rfl (by rw [hXn]; decide) (by first | rfl | simp [va_rf_S, va_rf_cat, cat_i, cat_a, cat_l, cat_f, fin4_0, fin4_1, fin4_2, fin4_3]) ?_
  obtain ⟨hr1, hr2, hw⟩ := hw
  refine gn_X18_33 (pc := 30) C (hlm.1 ▸ hr1) (hlm.2 ▸ hr2) dX18_at_30 (fun h_1 eh_1 => ?_)
  obtain ⟨a_2, ea_2⟩ : ∃ z : Nat, z = hZ h := ⟨_, rfl⟩
  rw [← ea_2]
  replace hw := hw a_2 h_1 ea_2 eh_1
  refine gk_dup (pc := 33) C.1 dX18_at_33 rfl ?_
  refine gk_iconst (pc := 34) (v := (-1)) C.1 dX18_at_34 (by decide) ?_
  refine gc_X18_35 (pc := 35) (As := [.int (-1)]) (rest := [.ref a_2]) C hCl (Nat.le_refl _) hw rfl rfl (Nat.le_of_ble_eq_true rfl) dX18_at_35 (fun v9 h_3 hp => ?_) (fun q_4 h_5 hw ht9 => ?_)
  rotate_left
  · exact gx_out C S0 (by rw [hTb]; decide) ht9 hw
  clear hw
  obtain ⟨rfl, hw⟩ := hp
  refine GK.at (p2 := 38) rfl ?_
  refine gh_athrow (pc := 38) C dX18_at_38 ?_
  obtain ⟨ht9, hw⟩ := hw
  exact gx_out C S0 (by rw [hTb]; decide) ht9 hw
def wb_X18_at (cl : CT) (lm : Nat × Nat) (Q : QT) (E : ET) (x0 : Nat) (x1 : Int32) (h : HS) : Prop := (hT h x0 = 7) ∧ (∀ r_1 : Option Nat, r_1 = hR h 23 x0 → (∃ a_2 : Nat, r_1 = some a_2 ∧ ((vp_in x1 (hN h a_2) → (hT h a_2 = 111 ∧ (∀ r_3 : Option Nat, r_3 = hB h a_2 x1.toNatClampNeg → ((hT h x0 = 7) ∧ ((((hI h 24 x0) ≤ x1 → (wb_X18_at_20 cl lm Q E r_3 0 h)) ∧ (¬ (hI h 24 x0) ≤ x1 → (wb_X18_at_20 cl lm Q E r_3 1 h)))))))) ∧ (¬ vp_in x1 (hN h a_2) → (hT h a_2 = 111 ∧ (hN h a_2 < 2147483648 ∧ hZ h + 3 ≤ lm.1 ∧ (hL h + 222 ≤ lm.2 ∧ (∀ (z_5 : Nat) (h_4 : HS), hVm h h_4 → (wb_X18_at_29 cl lm Q E z_5 h_4)))))))))
theorem wx_X18_at {l : Launch} (hst : l.stackTraces = false) {G : GG} {cl : CT} {lm : Nat × Nat} {Q : QT} {E : ET} {d2 : Nat} (hCl : CallsOK l G d2 cl ∧ hLm G lm ∧ 8 ≤ d2 ∧ LamsOK l G d2 cl) {x0 : Nat} {x1 : Int32} {h : HS} (hw : wb_X18_at cl lm Q E x0 x1 h) : HMet l G yX18_at (wsW_ yX18_at cX18_at 3 ((Option.some (Jvm.ClassFile.FieldType.object "GathersAllFaults$Placed"))) [(0, 28, 29, 31)]) (d2 + 1) [.ref x0, .int x1] h Q E := by
  refine gh_metW (own := RX18) rfl (by decide +kernel) hst (by simp only [lg_sl_i, lg_sl_r, lg_sl_a, lg_sl_2, lg_sl_f, lg_sl_0]; decide) (fun X hXl hXn hret hnm hTb h0 eh C S0 => ?_)
  subst hXl
  have hlm := hCl.2.1
  have hd8 := hCl.2.2.1
  have hd2 : 1 ≤ d2 := Nat.le_trans (by decide) hd8
  have hLa := hCl.2.2.2
  have hd1 : 1 ≤ d2 + 1 := Nat.le_add_left _ _
  have hC9 := hCl
  replace hCl := hCl.1
  have hini : True := trivial
  unfold wb_X18_at at hw
  refine GK.sub (lv' := [(0, .ref x0), (1, .int x1)]) [0, 1] (by simp only [lv_args_i, lv_args_r, lv_args_a, lv_args_l, lv_args_f, lv_args_0]; rfl) ?_
  refine gk_aload_n (pc := 0) C.1 0 dX18_at_0 rfl rfl ?_
  obtain ⟨ht, hw⟩ := hw
  refine gf_X18_9 (pc := 1) C ht dX18_at_1 (fun r_1 er_1 => ?_)
  replace hw := hw r_1 er_1
  refine gk_iload_n (pc := 4) C.1 1 dX18_at_4 rfl rfl ?_
  obtain ⟨a_2, rfl, hw⟩ := hw
  by_cases hi : vp_in x1 (hN h a_2)
  · obtain ⟨ht, hw⟩ := hw.1 hi
    refine gh_aald (pc := 5) (t0 := 3) (E := "java/lang/Object") C ht (by decide) (by decide) rfl hi dX18_at_5 ?_
    obtain ⟨r_3, er_3⟩ : ∃ z : Option Nat, z = hB h a_2 x1.toNatClampNeg := ⟨_, rfl⟩
    rw [← er_3]
    replace hw := hw r_3 er_3
    refine gk_qstore_n (pc := 6) (lv' := [(2, va_rf r_3), (0, Value.ref x0), (1, Value.int x1)]) C.1 dX18_at_6 rfl (by rw [hXn]; decide) (by first | rfl | simp [va_rf_S, va_rf_cat, cat_i, cat_a, cat_l, cat_f, fin4_0, fin4_1, fin4_2, fin4_3]) ?_
    refine gk_iload_n (pc := 7) C.1 2 dX18_at_7 rfl rfl ?_
    refine gk_aload_n (pc := 8) C.1 1 dX18_at_8 rfl rfl ?_
    obtain ⟨ht, hw⟩ := hw
    refine gf_X18_15 (pc := 9) C ht dX18_at_9 ?_
    refine gk_icmp_ge (pc := 12) (tgt := 19) C.1 dX18_at_12 (by decide) (fun c_6 => ?_) (fun c_6 => ?_)
    · replace hw := hw.1 c_6
      refine gk_iconst (pc := 19) (v := 0) C.1 dX18_at_19 (by decide) ?_
      refine GK.sub (lv' := [(2, va_rf r_3)]) [0] rfl ?_
      exact wk_X18_at_20 C hC9 S0 hret hXn hini hTb  _ _ _ hw
    · replace hw := hw.2 c_6
      refine gk_iconst (pc := 15) (v := 1) C.1 dX18_at_15 (by decide) ?_
      refine gk_goto (pc := 16) (tgt := 20) C.1 dX18_at_16 (by decide) ?_
      refine GK.sub (lv' := [(2, va_rf r_3)]) [0] rfl ?_
      exact wk_X18_at_20 C hC9 S0 hret hXn hini hTb  _ _ _ hw
  · obtain ⟨ht, hnb, hr1, hr2, hw⟩ := hw.2 hi
    refine gh_aaOut C hTb ht hi hnb (hlm.1 ▸ hr1) (hlm.2 ▸ hr2) hd8 dX18_at_5 (fun z_5 h_4 eh_4 => ?_)
    replace hw := hw z_5 h_4 eh_4
    refine GK.sub (lv' := []) [] rfl ?_
    exact wk_X18_at_29 C hC9 S0 hret hXn hini hTb  _ _ hw
/-! 245: GathersAllFaults$Row.below(I)I -/
def wb_X18_below_35 (cl : CT) (lm : Nat × Nat) (Q : QT) (E : ET) (J4 : Nat → Int32 → Int32 → Int32 → HS → Prop) (x0 : Nat) (x1 : Int32) (x3 : Int32) (s0 : Int32) (s1 : Int32) (h : HS) : Prop := ∀ x_1 : Int32, x_1 = s0 + s1 → (∀ x_2 : Int32, x_2 = x3 + 1 → (J4 x0 x1 x_1 x_2 h))
theorem wk_X18_below_35 {X : Ev} {G : GG} {cl : CT} {lm : Nat × Nat} {Q : QT} {E : ET} {h0 : HS} {d2 : Nat} {J4 : Nat → Int32 → Int32 → Int32 → HS → Prop} (C : HC X G RX18 cX18_below (d2 + 1)) (hCl : CallsOK (ev_l X) G d2 cl ∧ hLm G lm ∧ 8 ≤ d2 ∧ LamsOK (ev_l X) G d2 cl) (S0 : HS0 X h0) (hret : (ev_h X).sig.returnType = (Option.some Jvm.ClassFile.FieldType.int)) (hXn : ev_n X = 4) (hini : True) (hTb : (ev_c X).exceptionTable.toList = []) (hJ4 : ∀ (x0 : Nat) (x1 : Int32) (x2 : Int32) (x3 : Int32) (h : HS), J4 x0 x1 x2 x3 h → GH X G h (hQ X G h0 Q E) 4 [(0, .ref x0), (1, .int x1), (2, .int x2), (3, .int x3)] []) : ∀ (x0 : Nat) (x1 : Int32) (x3 : Int32) (s0 : Int32) (s1 : Int32) (h : HS), wb_X18_below_35 cl lm Q E J4 x0 x1 x3 s0 s1 h → GH X G h (hQ X G h0 Q E) 35 [(0, .ref x0), (1, .int x1), (3, .int x3)] [.int s1, .int s0] := by
  have hlm := hCl.2.1
  have hd8 := hCl.2.2.1
  have hd2 : 1 ≤ d2 := Nat.le_trans (by decide) hd8
  have hLa := hCl.2.2.2
  have hd1 : 1 ≤ d2 + 1 := Nat.le_add_left _ _
  have hC9 := hCl
  replace hCl := hCl.1
  intro x0 x1 x3 s0 s1 h hw
  unfold wb_X18_below_35 at hw
  refine gk_iadd (pc := 35) C.1 dX18_below_35 ?_
  obtain ⟨x_1, ex_1⟩ : ∃ z : Int32, z = s0 + s1 := ⟨_, rfl⟩
  rw [← ex_1]
  replace hw := hw x_1 ex_1
  refine gk_istore_n (pc := 36) (lv' := [(2, Value.int x_1), (0, Value.ref x0), (1, Value.int x1), (3, Value.int x3)]) C.1 dX18_below_36 rfl (by rw [hXn]; decide) (by first | rfl | simp [va_rf_S, va_rf_cat, cat_i, cat_a, cat_l, cat_f, fin4_0, fin4_1, fin4_2, fin4_3]) ?_
  obtain ⟨x_2, ex_2⟩ : ∃ z : Int32, z = x3 + 1 := ⟨_, rfl⟩
  replace hw := hw x_2 ex_2
  refine gk_iinc (pc := 37) (v := x_2) (lv' := [(3, Value.int x_2), (2, Value.int x_1), (0, Value.ref x0), (1, Value.int x1)]) C.1 3 dX18_below_37 rfl (by rw [ex_2]; rfl) (by rw [hXn]; decide) (by first | rfl | simp [va_rf_S, va_rf_cat, cat_i, cat_a, cat_l, cat_f, fin4_0, fin4_1, fin4_2, fin4_3]) ?_
  refine gk_goto (pc := 40) (tgt := 4) C.1 dX18_below_40 (by decide) ?_
  refine GK.sub (lv' := [(0, .ref x0), (1, .int x1), (2, .int x_1), (3, .int x_2)]) [2, 3, 1, 0] rfl ?_
  exact hJ4 _ _ _ _ _ hw
def wb_X18_below_4 (cl : CT) (lm : Nat × Nat) (Q : QT) (E : ET) : Nat → Nat → Int32 → Int32 → Int32 → HS → Prop
  | 0 => fun _ _ _ _ _ => False
  | n + 1 => fun x0 x1 x2 x3 h => (hT h x0 = 7) ∧ ((((hI h 24 x0) ≤ x3 → (Q (some (.int x2)) h)) ∧ (¬ (hI h 24 x0) ≤ x3 → (dp_Row_at cl x0 [.int x3] h (gR (fun r_3 h_2 => ∃ a_6 : Nat, r_3 = some a_6 ∧ (dp_Placed_path cl a_6 [] h_2 (gI (fun r_8 h_7 => cl 80 [.int r_8, .int x1] h_7 (gI (fun r_12 h_11 => ((r_12 = 0 → (wb_X18_below_35 cl lm Q E (fun yx0 yx1 yx2 yx3 yh => wb_X18_below_4 cl lm Q E n yx0 yx1 yx2 yx3 yh) x0 x1 x3 x2 0 h_11)) ∧ (¬ r_12 = 0 → (wb_X18_below_35 cl lm Q E (fun yx0 yx1 yx2 yx3 yh => wb_X18_below_4 cl lm Q E n yx0 yx1 yx2 yx3 yh) x0 x1 x3 x2 1 h_11))))) E)) E))) E))))
theorem wk_X18_below_4 {X : Ev} {G : GG} {cl : CT} {lm : Nat × Nat} {Q : QT} {E : ET} {h0 : HS} {d2 : Nat} (C : HC X G RX18 cX18_below (d2 + 1)) (hCl : CallsOK (ev_l X) G d2 cl ∧ hLm G lm ∧ 8 ≤ d2 ∧ LamsOK (ev_l X) G d2 cl) (S0 : HS0 X h0) (hret : (ev_h X).sig.returnType = (Option.some Jvm.ClassFile.FieldType.int)) (hXn : ev_n X = 4) (hini : True) (hTb : (ev_c X).exceptionTable.toList = []) : ∀ (n : Nat) (x0 : Nat) (x1 : Int32) (x2 : Int32) (x3 : Int32) (h : HS), wb_X18_below_4 cl lm Q E n x0 x1 x2 x3 h → GH X G h (hQ X G h0 Q E) 4 [(0, .ref x0), (1, .int x1), (2, .int x2), (3, .int x3)] [] := by
  have hlm := hCl.2.1
  have hd8 := hCl.2.2.1
  have hd2 : 1 ≤ d2 := Nat.le_trans (by decide) hd8
  have hLa := hCl.2.2.2
  have hd1 : 1 ≤ d2 + 1 := Nat.le_add_left _ _
  have hC9 := hCl
  replace hCl := hCl.1
  intro n
  induction n with
  | zero => intro x0 x1 x2 x3 h hw; exact hw.elim
  | succ n ih =>
  intro x0 x1 x2 x3 h hw
  unfold wb_X18_below_4 at hw
  refine gk_iload_n (pc := 4) C.1 3 dX18_below_4 rfl rfl ?_
  refine gk_aload_n (pc := 5) C.1 0 dX18_below_5 rfl rfl ?_
  obtain ⟨ht, hw⟩ := hw
  refine gf_X18_15 (pc := 6) C ht dX18_below_6 ?_
  refine gk_icmp_ge (pc := 9) (tgt := 43) C.1 dX18_below_9 (by decide) (fun c_1 => ?_) (fun c_1 => ?_)
  · replace hw := hw.1 c_1
    refine gk_iload_n (pc := 43) C.1 2 dX18_below_43 rfl rfl ?_
    exact gh_iret (pc := 44) C S0 hret dX18_below_44 hw
  · replace hw := hw.2 c_1
    refine gk_iload_n (pc := 12) C.1 2 dX18_below_12 rfl rfl ?_
    refine gk_aload_n (pc := 13) C.1 0 dX18_below_13 rfl rfl ?_
    refine gk_iload_n (pc := 14) C.1 3 dX18_below_14 rfl rfl ?_
    refine gc_X18_38 (pc := 15) (As := [.int x3]) (rest := [.int x2]) C hCl (Nat.le_refl _) hw rfl rfl (Nat.le_of_ble_eq_true rfl) dX18_below_15 (fun v9 h_2 hp => ?_) (fun q_4 h_5 hw ht9 => ?_)
    rotate_left
    · exact gx_out C S0 (by rw [hTb]; decide) ht9 hw
    clear hw
    obtain ⟨r_3, rfl, hw⟩ := hp
    refine GK.at (p2 := 18) rfl ?_
    obtain ⟨a_6, rfl, hw⟩ := hw
    refine gc_X18_46 (pc := 18) (As := []) (rest := [.int x2]) C hCl (Nat.le_refl _) hw rfl rfl (Nat.le_of_ble_eq_true rfl) dX18_below_18 (fun v9 h_7 hp => ?_) (fun q_9 h_10 hw ht9 => ?_)
    rotate_left
    · exact gx_out C S0 (by rw [hTb]; decide) ht9 hw
    clear hw
    obtain ⟨r_8, rfl, hw⟩ := hp
    refine GK.at (p2 := 23) rfl ?_
    refine gk_iload_n (pc := 23) C.1 1 dX18_below_23 rfl rfl ?_
    refine gc_X18_50 (pc := 24) (As := [.int r_8, .int x1]) (rest := [.int x2]) C hCl (Nat.le_refl _) hw rfl rfl (Nat.le_of_ble_eq_true rfl) dX18_below_24 (fun v9 h_11 hp => ?_) (fun q_13 h_14 hw ht9 => ?_)
    rotate_left
    · exact gx_out C S0 (by rw [hTb]; decide) ht9 hw
    clear hw
    obtain ⟨r_12, rfl, hw⟩ := hp
    refine GK.at (p2 := 27) rfl ?_
    refine gk_if_eq (pc := 27) (tgt := 34) C.1 dX18_below_27 (by decide) (fun c_15 => ?_) (fun c_15 => ?_)
    · replace hw := hw.1 c_15
      refine gk_iconst (pc := 34) (v := 0) C.1 dX18_below_34 (by decide) ?_
      refine GK.sub (lv' := [(0, .ref x0), (1, .int x1), (3, .int x3)]) [0, 1, 3] rfl ?_
      exact wk_X18_below_35 C hC9 S0 hret hXn hini hTb ih _ _ _ _ _ _ hw
    · replace hw := hw.2 c_15
      refine gk_iconst (pc := 30) (v := 1) C.1 dX18_below_30 (by decide) ?_
      refine gk_goto (pc := 31) (tgt := 35) C.1 dX18_below_31 (by decide) ?_
      refine GK.sub (lv' := [(0, .ref x0), (1, .int x1), (3, .int x3)]) [0, 1, 3] rfl ?_
      exact wk_X18_below_35 C hC9 S0 hret hXn hini hTb ih _ _ _ _ _ _ hw
def wb_X18_below (cl : CT) (lm : Nat × Nat) (Q : QT) (E : ET) (x0 : Nat) (x1 : Int32) (h : HS) : Prop := ∃ fu : Nat, wb_X18_below_4 cl lm Q E fu x0 x1 0 0 h
theorem wx_X18_below {l : Launch} (hst : l.stackTraces = false) {G : GG} {cl : CT} {lm : Nat × Nat} {Q : QT} {E : ET} {d2 : Nat} (hCl : CallsOK l G d2 cl ∧ hLm G lm ∧ 8 ≤ d2 ∧ LamsOK l G d2 cl) {x0 : Nat} {x1 : Int32} {h : HS} (hw : wb_X18_below cl lm Q E x0 x1 h) : HMet l G yX18_below (ws_ yX18_below cX18_below 4 ((Option.some Jvm.ClassFile.FieldType.int))) (d2 + 1) [.ref x0, .int x1] h Q E := by
  refine gh_met (own := RX18) rfl (by decide +kernel) hst (by simp only [lg_sl_i, lg_sl_r, lg_sl_a, lg_sl_2, lg_sl_f, lg_sl_0]; decide) (fun X hXl hXn hret hnm hTb h0 eh C S0 => ?_)
  subst hXl
  have hlm := hCl.2.1
  have hd8 := hCl.2.2.1
  have hd2 : 1 ≤ d2 := Nat.le_trans (by decide) hd8
  have hLa := hCl.2.2.2
  have hd1 : 1 ≤ d2 + 1 := Nat.le_add_left _ _
  have hC9 := hCl
  replace hCl := hCl.1
  have hini : True := trivial
  unfold wb_X18_below at hw
  refine GK.sub (lv' := [(0, .ref x0), (1, .int x1)]) [0, 1] (by simp only [lv_args_i, lv_args_r, lv_args_a, lv_args_l, lv_args_f, lv_args_0]; rfl) ?_
  refine gk_iconst (pc := 0) (v := 0) C.1 dX18_below_0 (by decide) ?_
  refine gk_istore_n (pc := 1) (lv' := [(2, Value.int 0), (0, Value.ref x0), (1, Value.int x1)]) C.1 dX18_below_1 rfl (by rw [hXn]; decide) (by first | rfl | simp [va_rf_S, va_rf_cat, cat_i, cat_a, cat_l, cat_f, fin4_0, fin4_1, fin4_2, fin4_3]) ?_
  refine gk_iconst (pc := 2) (v := 0) C.1 dX18_below_2 (by decide) ?_
  refine gk_istore_n (pc := 3) (lv' := [(3, Value.int 0), (2, Value.int 0), (0, Value.ref x0), (1, Value.int x1)]) C.1 dX18_below_3 rfl (by rw [hXn]; decide) (by first | rfl | simp [va_rf_S, va_rf_cat, cat_i, cat_a, cat_l, cat_f, fin4_0, fin4_1, fin4_2, fin4_3]) ?_
  refine GK.sub (lv' := [(0, .ref x0), (1, .int x1), (2, .int 0), (3, .int 0)]) [2, 3, 1, 0] rfl ?_
  obtain ⟨n9, hw⟩ := hw
  exact wk_X18_below_4 C hC9 S0 hret hXn hini hTb  n9 _ _ _ _ _ hw
/-! 246: GathersAllFaults$Row.empties()V -/
def wb_X18_empties (cl : CT) (lm : Nat × Nat) (Q : QT) (E : ET) (x0 : Nat) (h : HS) : Prop := (hT h x0 = 7) ∧ (∀ h_1 : HS, h_1 = sI h 24 x0 0 → (Q none h_1))
theorem wx_X18_empties {l : Launch} (hst : l.stackTraces = false) {G : GG} {cl : CT} {lm : Nat × Nat} {Q : QT} {E : ET} {d2 : Nat} (hCl : CallsOK l G d2 cl ∧ hLm G lm ∧ 8 ≤ d2 ∧ LamsOK l G d2 cl) {x0 : Nat} {h : HS} (hw : wb_X18_empties cl lm Q E x0 h) : HMet l G yX18_empties (ws_ yX18_empties cX18_empties 1 ((Option.none : Option Jvm.ClassFile.FieldType))) (d2 + 1) [.ref x0] h Q E := by
  refine gh_met (own := RX18) rfl (by decide +kernel) hst (by simp only [lg_sl_i, lg_sl_r, lg_sl_a, lg_sl_2, lg_sl_f, lg_sl_0]; decide) (fun X hXl hXn hret hnm hTb h0 eh C S0 => ?_)
  subst hXl
  have hlm := hCl.2.1
  have hd8 := hCl.2.2.1
  have hd2 : 1 ≤ d2 := Nat.le_trans (by decide) hd8
  have hLa := hCl.2.2.2
  have hd1 : 1 ≤ d2 + 1 := Nat.le_add_left _ _
  have hC9 := hCl
  replace hCl := hCl.1
  have hini : True := trivial
  unfold wb_X18_empties at hw
  refine GK.sub (lv' := [(0, .ref x0)]) [0] (by simp only [lv_args_i, lv_args_r, lv_args_a, lv_args_l, lv_args_f, lv_args_0]; rfl) ?_
  refine gk_aload_n (pc := 0) C.1 0 dX18_empties_0 rfl rfl ?_
  refine gk_iconst (pc := 1) (v := 0) C.1 dX18_empties_1 (by decide) ?_
  obtain ⟨ht, hw⟩ := hw
  refine gfp_X18_15 (pc := 2) C ht dX18_empties_2 (fun h_1 eh_1 => ?_)
  replace hw := hw h_1 eh_1
  exact gh_vret (pc := 5) C S0 hret dX18_empties_5 hw
/-! 247: GathersAllFaults$Row.<init>()V -/
def wb_X18_init (cl : CT) (lm : Nat × Nat) (Q : QT) (E : ET) (x0 : Nat) (h : HS) : Prop := ¬ (8 : Int32) < 0 ∧ ((8 : Int32).toNatClampNeg * 4 ≤ 536870912 ∧ (hZ h + 1 ≤ lm.1 ∧ (hL h + (8 : Int32).toNatClampNeg ≤ lm.2 ∧ (∀ (a_2 : Nat) (h_1 : HS), a_2 = hZ h → h_1 = hNew h 111 (8 : Int32).toNatClampNeg (8 : Int32).toNatClampNeg → ((hT h_1 x0 = 7) ∧ (∀ h_3 : HS, h_3 = sR h_1 23 x0 (some a_2) → (Q none h_3)))))))
theorem wx_X18_init {l : Launch} (hst : l.stackTraces = false) {G : GG} {cl : CT} {lm : Nat × Nat} {Q : QT} {E : ET} {d2 : Nat} (hCl : CallsOK l G d2 cl ∧ hLm G lm ∧ 8 ≤ d2 ∧ LamsOK l G d2 cl) {x0 : Nat} {h : HS} (hw : wb_X18_init cl lm Q E x0 h) : HMet l G yX18_init (ws_ yX18_init cX18_init 1 ((Option.none : Option Jvm.ClassFile.FieldType))) (d2 + 1) [.ref x0] h Q E := by
  refine gh_met (own := RX18) rfl (by decide +kernel) hst (by simp only [lg_sl_i, lg_sl_r, lg_sl_a, lg_sl_2, lg_sl_f, lg_sl_0]; decide) (fun X hXl hXn hret hnm hTb h0 eh C S0 => ?_)
  subst hXl
  have hlm := hCl.2.1
  have hd8 := hCl.2.2.1
  have hd2 : 1 ≤ d2 := Nat.le_trans (by decide) hd8
  have hLa := hCl.2.2.2
  have hd1 : 1 ≤ d2 + 1 := Nat.le_add_left _ _
  have hC9 := hCl
  replace hCl := hCl.1
  have hini : (ev_h X).name = "<init>" := hnm.1
  unfold wb_X18_init at hw
  refine GK.sub (lv' := [(0, .ref x0)]) [0] (by simp only [lv_args_i, lv_args_r, lv_args_a, lv_args_l, lv_args_f, lv_args_0]; rfl) ?_
  refine gk_aload_n (pc := 0) C.1 0 dX18_init_0 rfl rfl ?_
  refine gh_obj (pc := 1) C hd1 q1416 (Nat.le_of_ble_eq_true rfl) dX18_init_1 ?_
  refine gk_aload_n (pc := 4) C.1 0 dX18_init_4 rfl rfl ?_
  refine gk_bipush (pc := 5) (v := 8) C.1 dX18_init_5 (by decide) ?_
  obtain ⟨hn0, hby, hr1, hr2, hw⟩ := hw
  refine gh_anew (pc := 7) (t := 111) (t0 := 3) (E := "java/lang/Object") C ⟨by decide, by decide⟩ rfl q1292 q1293 hn0 hby (hlm.1 ▸ hr1) (hlm.2 ▸ hr2) dX18_init_7 ?_
  obtain ⟨h_1, eh_1⟩ : ∃ z : HS, z = hNew h 111 (8 : Int32).toNatClampNeg (8 : Int32).toNatClampNeg := ⟨_, rfl⟩
  rw [← eh_1]
  obtain ⟨a_2, ea_2⟩ : ∃ z : Nat, z = hZ h := ⟨_, rfl⟩
  rw [← ea_2]
  replace hw := hw a_2 h_1 ea_2 eh_1
  obtain ⟨ht, hw⟩ := hw
  refine gfp_X18_9 (pc := 10) (r := (some a_2)) C ht dX18_init_10 (fun h_3 eh_3 => ?_)
  replace hw := hw h_3 eh_3
  exact gh_vret (pc := 13) C S0 hret dX18_init_13 hw
/-! 248: GathersAllFaults$Part.<init>(ILGathersAllFaults$Value;)V -/
def wb_X19_init (cl : CT) (lm : Nat × Nat) (Q : QT) (E : ET) (x0 : Nat) (x1 : Int32) (x2 : Option Nat) (h : HS) : Prop := (hT h x0 = 6) ∧ (∀ h_1 : HS, h_1 = sI h 21 x0 x1 → ((hT h_1 x0 = 6) ∧ (∀ h_2 : HS, h_2 = sR h_1 22 x0 x2 → (Q none h_2))))
theorem wx_X19_init {l : Launch} (hst : l.stackTraces = false) {G : GG} {cl : CT} {lm : Nat × Nat} {Q : QT} {E : ET} {d2 : Nat} (hCl : CallsOK l G d2 cl ∧ hLm G lm ∧ 8 ≤ d2 ∧ LamsOK l G d2 cl) {x0 : Nat} {x1 : Int32} {x2 : Option Nat} {h : HS} (hw : wb_X19_init cl lm Q E x0 x1 x2 h) : HMet l G yX19_init (ws_ yX19_init cX19_init 3 ((Option.none : Option Jvm.ClassFile.FieldType))) (d2 + 1) [.ref x0, .int x1, va_rf x2] h Q E := by
  refine gh_met (own := RX19) rfl (by decide +kernel) hst (by simp only [lg_sl_i, lg_sl_r, lg_sl_a, lg_sl_2, lg_sl_f, lg_sl_0]; decide) (fun X hXl hXn hret hnm hTb h0 eh C S0 => ?_)
  subst hXl
  have hlm := hCl.2.1
  have hd8 := hCl.2.2.1
  have hd2 : 1 ≤ d2 := Nat.le_trans (by decide) hd8
  have hLa := hCl.2.2.2
  have hd1 : 1 ≤ d2 + 1 := Nat.le_add_left _ _
  have hC9 := hCl
  replace hCl := hCl.1
  have hini : (ev_h X).name = "<init>" := hnm.1
  unfold wb_X19_init at hw
  refine GK.sub (lv' := [(0, .ref x0), (1, .int x1), (2, va_rf x2)]) [0, 1, 2] (by simp only [lv_args_i, lv_args_r, lv_args_a, lv_args_l, lv_args_f, lv_args_0]; rfl) ?_
  refine gk_aload_n (pc := 0) C.1 0 dX19_init_0 rfl rfl ?_
  refine gh_obj (pc := 1) C hd1 q1612 (Nat.le_of_ble_eq_true rfl) dX19_init_1 ?_
  refine gk_aload_n (pc := 4) C.1 0 dX19_init_4 rfl rfl ?_
  refine gk_iload_n (pc := 5) C.1 1 dX19_init_5 rfl rfl ?_
  obtain ⟨ht, hw⟩ := hw
  refine gfp_X19_7 (pc := 6) C hini ht dX19_init_6 (fun h_1 eh_1 => ?_)
  replace hw := hw h_1 eh_1
  refine gk_aload_n (pc := 9) C.1 0 dX19_init_9 rfl rfl ?_
  refine gk_qload_n (pc := 10) C.1 2 dX19_init_10 rfl rfl ?_
  obtain ⟨ht, hw⟩ := hw
  refine gfp_X19_13 (pc := 11) (r := x2) C hini ht dX19_init_11 (fun h_2 eh_2 => ?_)
  replace hw := hw h_2 eh_2
  exact gh_vret (pc := 14) C S0 hret dX19_init_14 hw
/-! 249: GathersAllFaults$Part.path()I -/
def wb_X19_path (cl : CT) (lm : Nat × Nat) (Q : QT) (E : ET) (x0 : Nat) (h : HS) : Prop := (hT h x0 = 6) ∧ (Q (some (.int (hI h 21 x0))) h)
theorem wx_X19_path {l : Launch} (hst : l.stackTraces = false) {G : GG} {cl : CT} {lm : Nat × Nat} {Q : QT} {E : ET} {d2 : Nat} (hCl : CallsOK l G d2 cl ∧ hLm G lm ∧ 8 ≤ d2 ∧ LamsOK l G d2 cl) {x0 : Nat} {h : HS} (hw : wb_X19_path cl lm Q E x0 h) : HMet l G yX19_path (ws_ yX19_path cX19_path 1 ((Option.some Jvm.ClassFile.FieldType.int))) (d2 + 1) [.ref x0] h Q E := by
  refine gh_met (own := RX19) rfl (by decide +kernel) hst (by simp only [lg_sl_i, lg_sl_r, lg_sl_a, lg_sl_2, lg_sl_f, lg_sl_0]; decide) (fun X hXl hXn hret hnm hTb h0 eh C S0 => ?_)
  subst hXl
  have hlm := hCl.2.1
  have hd8 := hCl.2.2.1
  have hd2 : 1 ≤ d2 := Nat.le_trans (by decide) hd8
  have hLa := hCl.2.2.2
  have hd1 : 1 ≤ d2 + 1 := Nat.le_add_left _ _
  have hC9 := hCl
  replace hCl := hCl.1
  have hini : True := trivial
  unfold wb_X19_path at hw
  refine GK.sub (lv' := [(0, .ref x0)]) [0] (by simp only [lv_args_i, lv_args_r, lv_args_a, lv_args_l, lv_args_f, lv_args_0]; rfl) ?_
  refine gk_aload_n (pc := 0) C.1 0 dX19_path_0 rfl rfl ?_
  obtain ⟨ht, hw⟩ := hw
  refine gf_X19_7 (pc := 1) C ht dX19_path_1 ?_
  exact gh_iret (pc := 4) C S0 hret dX19_path_4 hw
/-! 250: GathersAllFaults$Tally.<init>(I)V -/
def wb_X20_init (cl : CT) (lm : Nat × Nat) (Q : QT) (E : ET) (x0 : Nat) (x1 : Int32) (h : HS) : Prop := (hT h x0 = 18) ∧ (∀ h_1 : HS, h_1 = sI h 58 x0 x1 → (Q none h_1))
theorem wx_X20_init {l : Launch} (hst : l.stackTraces = false) {G : GG} {cl : CT} {lm : Nat × Nat} {Q : QT} {E : ET} {d2 : Nat} (hCl : CallsOK l G d2 cl ∧ hLm G lm ∧ 8 ≤ d2 ∧ LamsOK l G d2 cl) {x0 : Nat} {x1 : Int32} {h : HS} (hw : wb_X20_init cl lm Q E x0 x1 h) : HMet l G yX20_init (ws_ yX20_init cX20_init 2 ((Option.none : Option Jvm.ClassFile.FieldType))) (d2 + 1) [.ref x0, .int x1] h Q E := by
  refine gh_met (own := RX20) rfl (by decide +kernel) hst (by simp only [lg_sl_i, lg_sl_r, lg_sl_a, lg_sl_2, lg_sl_f, lg_sl_0]; decide) (fun X hXl hXn hret hnm hTb h0 eh C S0 => ?_)
  subst hXl
  have hlm := hCl.2.1
  have hd8 := hCl.2.2.1
  have hd2 : 1 ≤ d2 := Nat.le_trans (by decide) hd8
  have hLa := hCl.2.2.2
  have hd1 : 1 ≤ d2 + 1 := Nat.le_add_left _ _
  have hC9 := hCl
  replace hCl := hCl.1
  have hini : (ev_h X).name = "<init>" := hnm.1
  unfold wb_X20_init at hw
  refine GK.sub (lv' := [(0, .ref x0), (1, .int x1)]) [0, 1] (by simp only [lv_args_i, lv_args_r, lv_args_a, lv_args_l, lv_args_f, lv_args_0]; rfl) ?_
  refine gk_aload_n (pc := 0) C.1 0 dX20_init_0 rfl rfl ?_
  refine gh_obj (pc := 1) C hd1 q1836 (Nat.le_of_ble_eq_true rfl) dX20_init_1 ?_
  refine gk_aload_n (pc := 4) C.1 0 dX20_init_4 rfl rfl ?_
  refine gk_iload_n (pc := 5) C.1 1 dX20_init_5 rfl rfl ?_
  obtain ⟨ht, hw⟩ := hw
  refine gfp_X20_7 (pc := 6) C hini ht dX20_init_6 (fun h_1 eh_1 => ?_)
  replace hw := hw h_1 eh_1
  exact gh_vret (pc := 9) C S0 hret dX20_init_9 hw
