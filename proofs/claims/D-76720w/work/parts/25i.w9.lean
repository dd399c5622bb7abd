set_option maxRecDepth 100000
/-! 160: GathersAllFaults$Compiled.of(LGathersAllFaults$Value;)LGathersAllFaults$Finding; -/
def wb_X3_of (cl : CT) (lm : Nat × Nat) (Q : QT) (E : ET) (x0 : Nat) (x1 : Option Nat) (h : HS) : Prop := (hT h x0 = 11) ∧ (∀ r_1 : Option Nat, r_1 = hR h 34 x0 → ((hT h x0 = 11) ∧ (∀ r_2 : Option Nat, r_2 = hR h 36 x0 → (∃ a_3 : Nat, r_2 = some a_3 ∧ (dp_Sink_emptied cl a_3 [] h (gR (fun r_5 h_4 => cl 51 [va_rf r_1, va_rf x1, .int 0, va_rf r_5] h_4 (gR (fun r_9 h_8 => Q (some (va_rf r_9)) h_8)) E)) E)))))
theorem wx_X3_of {l : Launch} (hst : l.stackTraces = false) {G : GG} {cl : CT} {lm : Nat × Nat} {Q : QT} {E : ET} {d2 : Nat} (hCl : CallsOK l G d2 cl ∧ hLm G lm ∧ 8 ≤ d2 ∧ LamsOK l G d2 cl) {x0 : Nat} {x1 : Option Nat} {h : HS} (hw : wb_X3_of cl lm Q E x0 x1 h) : HMet l G yX3_of (ws_ yX3_of cX3_of 2 ((Option.some (Jvm.ClassFile.FieldType.object "GathersAllFaults$Finding")))) (d2 + 1) [.ref x0, va_rf x1] h Q E := by
  refine gh_met (own := RX3) rfl (by decide +kernel) hst (by simp only [lg_sl_i, lg_sl_r, lg_sl_a, lg_sl_2, lg_sl_f, lg_sl_0]; decide) (fun X hXl hXn hret hnm hTb h0 eh C S0 => ?_)
  subst hXl
  have hlm := hCl.2.1
  have hd8 := hCl.2.2.1
  have hd2 : 1 ≤ d2 := Nat.le_trans (by decide) hd8
  have hLa := hCl.2.2.2
  have hd1 : 1 ≤ d2 + 1 := Nat.le_add_left _ _
  have hC9 := hCl
  replace hCl := hCl.1
  have hini : True := trivial
  unfold wb_X3_of at hw
  refine GK.sub (lv' := [(0, .ref x0), (1, va_rf x1)]) [0, 1] (by simp only [lv_args_i, lv_args_r, lv_args_a, lv_args_l, lv_args_f, lv_args_0]; rfl) ?_
  refine gk_aload_n (pc := 0) C.1 0 dX3_of_0 rfl rfl ?_
  obtain ⟨ht, hw⟩ := hw
  refine gf_X3_11 (pc := 1) C ht dX3_of_1 (fun r_1 er_1 => ?_)
  replace hw := hw r_1 er_1
  refine gk_qload_n (pc := 4) C.1 1 dX3_of_4 rfl rfl ?_
  refine gk_iconst (pc := 5) (v := 0) C.1 dX3_of_5 (by decide) ?_
  refine gk_aload_n (pc := 6) C.1 0 dX3_of_6 rfl rfl ?_
  obtain ⟨ht, hw⟩ := hw
  refine gf_X3_24 (pc := 7) C ht dX3_of_7 (fun r_2 er_2 => ?_)
  replace hw := hw r_2 er_2
  obtain ⟨a_3, rfl, hw⟩ := hw
  refine gc_X3_31 (pc := 10) (As := []) (rest := [.int 0, va_rf x1, va_rf r_1]) C hCl (Nat.le_refl _) hw rfl rfl (by simp [va_rf_S, va_rf_cat, cat_i, cat_a, cat_l, cat_f, fin4_0, fin4_1, fin4_2, fin4_3]) dX3_of_10 (fun v9 h_4 hp => ?_) (fun q_6 h_7 hw ht9 => ?_)
  rotate_left
  · exact gx_out C S0 (by rw [hTb]; decide) ht9 hw
  clear hw
  obtain ⟨r_5, rfl, hw⟩ := hp
  refine GK.at (p2 := 13) rfl ?_
  refine gc_X3_35 (pc := 13) (As := [va_rf r_1, va_rf x1, .int 0, va_rf r_5]) (rest := []) C hCl (Nat.le_refl _) hw rfl rfl (Nat.le_of_ble_eq_true rfl) dX3_of_13 (fun v9 h_8 hp => ?_) (fun q_10 h_11 hw ht9 => ?_)
  rotate_left
  · exact gx_out C S0 (by rw [hTb]; decide) ht9 hw
  clear hw
  obtain ⟨r_9, rfl, hw⟩ := hp
  refine GK.at (p2 := 16) rfl ?_
  exact gh_aret (pc := 16) (r := r_9) C S0 hret (Or.inl ⟨_, rfl⟩) dX3_of_16 hw
/-! 161: GathersAllFaults$Sink.emptied()LGathersAllFaults$Sink; -/
def wb_X4_emptied (cl : CT) (lm : Nat × Nat) (Q : QT) (E : ET) (x0 : Nat) (h : HS) : Prop := (hT h x0 = 10) ∧ (∀ h_1 : HS, h_1 = sI h 31 x0 0 → ((hT h_1 x0 = 10) ∧ (∀ h_2 : HS, h_2 = sI h_1 33 x0 0 → (Q (some (va_rf (some x0))) h_2))))
theorem wx_X4_emptied {l : Launch} (hst : l.stackTraces = false) {G : GG} {cl : CT} {lm : Nat × Nat} {Q : QT} {E : ET} {d2 : Nat} (hCl : CallsOK l G d2 cl ∧ hLm G lm ∧ 8 ≤ d2 ∧ LamsOK l G d2 cl) {x0 : Nat} {h : HS} (hw : wb_X4_emptied cl lm Q E x0 h) : HMet l G yX4_emptied (ws_ yX4_emptied cX4_emptied 1 ((Option.some (Jvm.ClassFile.FieldType.object "GathersAllFaults$Sink")))) (d2 + 1) [.ref x0] h Q E := by
  refine gh_met (own := RX4) rfl (by decide +kernel) hst (by simp only [lg_sl_i, lg_sl_r, lg_sl_a, lg_sl_2, lg_sl_f, lg_sl_0]; decide) (fun X hXl hXn hret hnm hTb h0 eh C S0 => ?_)
  subst hXl
  have hlm := hCl.2.1
  have hd8 := hCl.2.2.1
  have hd2 : 1 ≤ d2 := Nat.le_trans (by decide) hd8
  have hLa := hCl.2.2.2
  have hd1 : 1 ≤ d2 + 1 := Nat.le_add_left _ _
  have hC9 := hCl
  replace hCl := hCl.1
  have hini : True := trivial
  unfold wb_X4_emptied at hw
  refine GK.sub (lv' := [(0, .ref x0)]) [0] (by simp only [lv_args_i, lv_args_r, lv_args_a, lv_args_l, lv_args_f, lv_args_0]; rfl) ?_
  refine gk_aload_n (pc := 0) C.1 0 dX4_emptied_0 rfl rfl ?_
  refine gk_iconst (pc := 1) (v := 0) C.1 dX4_emptied_1 (by decide) ?_
  obtain ⟨ht, hw⟩ := hw
  refine gfp_X4_21 (pc := 2) C ht dX4_emptied_2 (fun h_1 eh_1 => ?_)
  replace hw := hw h_1 eh_1
  refine gk_aload_n (pc := 5) C.1 0 dX4_emptied_5 rfl rfl ?_
  refine gk_iconst (pc := 6) (v := 0) C.1 dX4_emptied_6 (by decide) ?_
  obtain ⟨ht, hw⟩ := hw
  refine gfp_X4_25 (pc := 7) C ht dX4_emptied_7 (fun h_2 eh_2 => ?_)
  replace hw := hw h_2 eh_2
  refine gk_aload_n (pc := 10) C.1 0 dX4_emptied_10 rfl rfl ?_
  exact gh_aret (pc := 11) (r := (some x0)) C S0 hret (Or.inl ⟨_, rfl⟩) dX4_emptied_11 hw
/-! 162: GathersAllFaults$Sink.finding()LGathersAllFaults$Finding; -/
def wb_X4_finding_70 (cl : CT) (lm : Nat × Nat) (Q : QT) (E : ET) (x0 : Nat) (h : HS) : Prop := (hT h x0 = 10) ∧ ((hT h x0 = 10) ∧ (∀ h_1 : HS, h_1 = sI h 31 x0 ((hI h 31 x0) + 1) → ((hT h_1 x0 = 10) ∧ (∀ r_2 : Option Nat, r_2 = hR h_1 30 x0 → ((hT h_1 x0 = 10) ∧ (∃ a_3 : Nat, r_2 = some a_3 ∧ (hT h_1 a_3 = 112 ∧ (vp_in ((hI h_1 31 x0) - 1) (hN h_1 a_3) ∧ (∀ r_4 : Option Nat, r_4 = hB h_1 a_3 ((hI h_1 31 x0) - 1).toNatClampNeg → (∃ a_5 : Nat, r_4 = some a_5 ∧ (dp_Finding_emptied cl a_5 [] h_1 (gR (fun r_7 h_6 => Q (some (va_rf r_7)) h_6)) E)))))))))))
theorem wk_X4_finding_70 {X : Ev} {G : GG} {cl : CT} {lm : Nat × Nat} {Q : QT} {E : ET} {h0 : HS} {d2 : Nat} (C : HC X G RX4 cX4_finding (d2 + 1)) (hCl : CallsOK (ev_l X) G d2 cl ∧ hLm G lm ∧ 8 ≤ d2 ∧ LamsOK (ev_l X) G d2 cl) (S0 : HS0 X h0) (hret : (ev_h X).sig.returnType = (Option.some (Jvm.ClassFile.FieldType.object "GathersAllFaults$Finding"))) (hXn : ev_n X = 2) (hini : True) (hTb : (ev_c X).exceptionTable.toList = []) : ∀ (x0 : Nat) (h : HS), wb_X4_finding_70 cl lm Q E x0 h → GH X G h (hQ X G h0 Q E) 70 [(0, .ref x0)] [] := by
  have hlm := hCl.2.1
  have hd8 := hCl.2.2.1
  have hd2 : 1 ≤ d2 := Nat.le_trans (by decide) hd8
  have hLa := hCl.2.2.2
  have hd1 : 1 ≤ d2 + 1 := Nat.le_add_left _ _
  have hC9 := hCl
  replace hCl := hCl.1
  intro x0 h hw
  unfold wb_X4_finding_70 at hw
  refine gk_aload_n (pc := 70) C.1 0 dX4_finding_70 rfl rfl ?_
  refine gk_dup (pc := 71) C.1 dX4_finding_71 rfl ?_
  obtain ⟨ht, hw⟩ := hw
  refine gf_X4_21 (pc := 72) C ht dX4_finding_72 ?_
  refine gk_iconst (pc := 75) (v := 1) C.1 dX4_finding_75 (by decide) ?_
  refine gk_iadd (pc := 76) C.1 dX4_finding_76 ?_
  obtain ⟨ht, hw⟩ := hw
  refine gfp_X4_21 (pc := 77) C ht dX4_finding_77 (fun h_1 eh_1 => ?_)
  replace hw := hw h_1 eh_1
  refine gk_aload_n (pc := 80) C.1 0 dX4_finding_80 rfl rfl ?_
  obtain ⟨ht, hw⟩ := hw
  refine gf_X4_9 (pc := 81) C ht dX4_finding_81 (fun r_2 er_2 => ?_)
  replace hw := hw r_2 er_2
  refine gk_aload_n (pc := 84) C.1 0 dX4_finding_84 rfl rfl ?_
  obtain ⟨ht, hw⟩ := hw
  refine gf_X4_21 (pc := 85) C ht dX4_finding_85 ?_
  refine gk_iconst (pc := 88) (v := 1) C.1 dX4_finding_88 (by decide) ?_
  refine gk_isub (pc := 89) C.1 dX4_finding_89 ?_
  obtain ⟨a_3, rfl, hw⟩ := hw
  obtain ⟨ht, hi, hw⟩ := hw
  refine gh_aald (pc := 90) (t0 := 4) (E := "GathersAllFaults$Finding") C ht (by decide) (by decide) rfl hi dX4_finding_90 ?_
  obtain ⟨r_4, er_4⟩ : ∃ z : Option Nat, z = hB h_1 a_3 ((hI h_1 31 x0) - 1).toNatClampNeg := ⟨_, rfl⟩
  rw [← er_4]
  replace hw := hw r_4 er_4
  obtain ⟨a_5, rfl, hw⟩ := hw
  refine gc_X4_37 (pc := 91) (As := []) (rest := []) C hCl (Nat.le_refl _) hw rfl rfl (Nat.le_of_ble_eq_true rfl) dX4_finding_91 (fun v9 h_6 hp => ?_) (fun q_8 h_9 hw ht9 => ?_)
  rotate_left
  · exact gx_out C S0 (by rw [hTb]; decide) ht9 hw
  clear hw
  obtain ⟨r_7, rfl, hw⟩ := hp
  refine GK.at (p2 := 94) rfl ?_
  exact gh_aret (pc := 94) (r := r_7) C S0 hret (Or.inl ⟨_, rfl⟩) dX4_finding_94 hw
def wb_X4_finding_41 (cl : CT) (lm : Nat × Nat) (Q : QT) (E : ET) (x0 : Nat) (h : HS) : Prop := (hT h x0 = 10) ∧ (∀ r_1 : Option Nat, r_1 = hR h 30 x0 → ((hT h x0 = 10) ∧ (∃ a_2 : Nat, r_1 = some a_2 ∧ (hT h a_2 = 112 ∧ (vp_in (hI h 31 x0) (hN h a_2) ∧ (∀ r_3 : Option Nat, r_3 = hB h a_2 (hI h 31 x0).toNatClampNeg → ((r_3 = none → ((hT h x0 = 10) ∧ (∀ r_6 : Option Nat, r_6 = hR h 30 x0 → ((hT h x0 = 10) ∧ (hZ h + 1 ≤ lm.1 ∧ (hL h + 3 ≤ lm.2 ∧ (∀ (a_8 : Nat) (h_7 : HS), a_8 = hZ h → h_7 = hNew h 9 0 3 → (cl 240 (.ref a_8 :: [.ref x0]) h_7 (gV (fun h_9 => ∃ a_12 : Nat, r_6 = some a_12 ∧ (hT h_9 a_12 = 112 ∧ (vp_in (hI h 31 x0) (hN h_9 a_12) ∧ (as_X17 h_9 (some a_8) ∧ (∀ h_13 : HS, h_13 = sB h_9 a_12 (hI h 31 x0).toNatClampNeg (some a_8) → (wb_X4_finding_70 cl lm Q E x0 h_13))))))) E)))))))) ∧ (∀ a_5 : Nat, r_3 = some a_5 → (wb_X4_finding_70 cl lm Q E x0 h)))))))))
theorem wk_X4_finding_41 {X : Ev} {G : GG} {cl : CT} {lm : Nat × Nat} {Q : QT} {E : ET} {h0 : HS} {d2 : Nat} (C : HC X G RX4 cX4_finding (d2 + 1)) (hCl : CallsOK (ev_l X) G d2 cl ∧ hLm G lm ∧ 8 ≤ d2 ∧ LamsOK (ev_l X) G d2 cl) (S0 : HS0 X h0) (hret : (ev_h X).sig.returnType = (Option.some (Jvm.ClassFile.FieldType.object "GathersAllFaults$Finding"))) (hXn : ev_n X = 2) (hini : True) (hTb : (ev_c X).exceptionTable.toList = []) : ∀ (x0 : Nat) (h : HS), wb_X4_finding_41 cl lm Q E x0 h → GH X G h (hQ X G h0 Q E) 41 [(0, .ref x0)] [] := by
  have hlm := hCl.2.1
  have hd8 := hCl.2.2.1
  have hd2 : 1 ≤ d2 := Nat.le_trans (by decide) hd8
  have hLa := hCl.2.2.2
  have hd1 : 1 ≤ d2 + 1 := Nat.le_add_left _ _
  have hC9 := hCl
  replace hCl := hCl.1
  intro x0 h hw
  unfold wb_X4_finding_41 at hw
  refine gk_aload_n (pc := 41) C.1 0 dX4_finding_41 rfl rfl ?_
  obtain ⟨ht, hw⟩ := hw
  refine gf_X4_9 (pc := 42) C ht dX4_finding_42 (fun r_1 er_1 => ?_)
  replace hw := hw r_1 er_1
  refine gk_aload_n (pc := 45) C.1 0 dX4_finding_45 rfl rfl ?_
  obtain ⟨ht, hw⟩ := hw
  refine gf_X4_21 (pc := 46) C ht dX4_finding_46 ?_
  obtain ⟨a_2, rfl, hw⟩ := hw
  obtain ⟨ht, hi, hw⟩ := hw
  refine gh_aald (pc := 49) (t0 := 4) (E := "GathersAllFaults$Finding") C ht (by decide) (by decide) rfl hi dX4_finding_49 ?_
  obtain ⟨r_3, er_3⟩ : ∃ z : Option Nat, z = hB h a_2 (hI h 31 x0).toNatClampNeg := ⟨_, rfl⟩
  rw [← er_3]
  replace hw := hw r_3 er_3
  refine gk_ifnonnull (pc := 50) (tgt := 70) C.1 dX4_finding_50 (by decide) (fun c_4 => ?_) (fun c_4 => ?_)
  · obtain ⟨a_5, c_4⟩ := Option.ne_none_iff_exists'.mp c_4
    replace hw := hw.2 a_5 c_4
    subst c_4
    refine GK.sub (lv' := [(0, .ref x0)]) [0] rfl ?_
    exact wk_X4_finding_70 C hC9 S0 hret hXn hini hTb  _ _ hw
  · replace hw := hw.1 c_4
    subst c_4
    refine gk_aload_n (pc := 53) C.1 0 dX4_finding_53 rfl rfl ?_
    obtain ⟨ht, hw⟩ := hw
    refine gf_X4_9 (pc := 54) C ht dX4_finding_54 (fun r_6 er_6 => ?_)
    replace hw := hw r_6 er_6
    refine gk_aload_n (pc := 57) C.1 0 dX4_finding_57 rfl rfl ?_
    obtain ⟨ht, hw⟩ := hw
    refine gf_X4_21 (pc := 58) C ht dX4_finding_58 ?_
    obtain ⟨hr1, hr2, hw⟩ := hw
    refine gn_X4_7 (pc := 61) C (hlm.1 ▸ hr1) (hlm.2 ▸ hr2) dX4_finding_61 (fun h_7 eh_7 => ?_)
    obtain ⟨a_8, ea_8⟩ : ∃ z : Nat, z = hZ h := ⟨_, rfl⟩
    rw [← ea_8]
    replace hw := hw a_8 h_7 ea_8 eh_7
    refine gk_dup (pc := 64) C.1 dX4_finding_64 rfl ?_
    refine gk_aload_n (pc := 65) C.1 0 dX4_finding_65 rfl rfl ?_
    refine gc_X4_34 (pc := 66) (As := [.ref x0]) (rest := [.ref a_8, .int (hI h 31 x0), va_rf r_6]) C hCl (Nat.le_refl _) hw rfl rfl (by simp [va_rf_S, va_rf_cat, cat_i, cat_a, cat_l, cat_f, fin4_0, fin4_1, fin4_2, fin4_3]) dX4_finding_66 (fun v9 h_9 hp => ?_) (fun q_10 h_11 hw ht9 => ?_)
    rotate_left
    · exact gx_out C S0 (by rw [hTb]; decide) ht9 hw
    clear hw
    obtain ⟨rfl, hw⟩ := hp
    refine GK.at (p2 := 69) rfl ?_
    obtain ⟨a_12, rfl, hw⟩ := hw
    obtain ⟨ht, hi, hs, hw⟩ := hw
    refine gh_aast (pc := 69) (r := (some a_8)) (t0 := 4) (E := "GathersAllFaults$Finding") C ht (by decide) (by decide) rfl (as_X17_ok hs) hi dX4_finding_69 ?_
    obtain ⟨h_13, eh_13⟩ : ∃ z : HS, z = sB h_9 a_12 (hI h 31 x0).toNatClampNeg (some a_8) := ⟨_, rfl⟩
    rw [← eh_13]
    replace hw := hw h_13 eh_13
    refine GK.sub (lv' := [(0, .ref x0)]) [0] rfl ?_
    exact wk_X4_finding_70 C hC9 S0 hret hXn hini hTb  _ _ hw
def wb_X4_finding (cl : CT) (lm : Nat × Nat) (Q : QT) (E : ET) (x0 : Nat) (h : HS) : Prop := (hT h x0 = 10) ∧ ((hT h x0 = 10) ∧ (∀ r_1 : Option Nat, r_1 = hR h 30 x0 → (∃ a_2 : Nat, r_1 = some a_2 ∧ (hT h a_2 = 112 ∧ (((¬ (hI h 31 x0) = (nI (hN h a_2)) → (wb_X4_finding_41 cl lm Q E x0 h)) ∧ ((hI h 31 x0) = (nI (hN h a_2)) → ((hT h x0 = 10) ∧ (¬ (2 * (hI h 31 x0)) < 0 ∧ ((2 * (hI h 31 x0)).toNatClampNeg * 4 ≤ 536870912 ∧ (hZ h + 1 ≤ lm.1 ∧ (hL h + (2 * (hI h 31 x0)).toNatClampNeg ≤ lm.2 ∧ (∀ (a_5 : Nat) (h_4 : HS), a_5 = hZ h → h_4 = hNew h 112 (2 * (hI h 31 x0)).toNatClampNeg (2 * (hI h 31 x0)).toNatClampNeg → ((hT h_4 x0 = 10) ∧ (∀ r_6 : Option Nat, r_6 = hR h_4 30 x0 → ((hT h_4 x0 = 10) ∧ (∃ a_7 : Nat, r_6 = some a_7 ∧ (hT h_4 a_7 = 112 ∧ (hT h_4 a_5 = 112 ∧ (¬ (0 : Int32) < 0 ∧ (¬ (0 : Int32) < 0 ∧ (¬ (hI h_4 31 x0) < 0 ∧ ((0 : Int32).toNatClampNeg + (hI h_4 31 x0).toNatClampNeg ≤ hN h_4 a_7 ∧ ((0 : Int32).toNatClampNeg + (hI h_4 31 x0).toNatClampNeg ≤ hN h_4 a_5 ∧ ((∀ i : Nat, i < (hI h_4 31 x0).toNatClampNeg → as_X17 h_4 (hB h_4 a_7 ((0 : Int32).toNatClampNeg + i))) ∧ (∀ h_8 : HS, h_8 = sCpy h_4 a_5 a_7 (0 : Int32).toNatClampNeg (0 : Int32).toNatClampNeg (hI h_4 31 x0).toNatClampNeg → ((hT h_8 x0 = 10) ∧ (∀ h_9 : HS, h_9 = sR h_8 30 x0 (some a_5) → (wb_X4_finding_41 cl lm Q E x0 h_9)))))))))))))))))))))))))))))
theorem wx_X4_finding {l : Launch} (hst : l.stackTraces = false) {G : GG} {cl : CT} {lm : Nat × Nat} {Q : QT} {E : ET} {d2 : Nat} (hCl : CallsOK l G d2 cl ∧ hLm G lm ∧ 8 ≤ d2 ∧ LamsOK l G d2 cl) {x0 : Nat} {h : HS} (hw : wb_X4_finding cl lm Q E x0 h) : HMet l G yX4_finding (ws_ yX4_finding cX4_finding 2 ((Option.some (Jvm.ClassFile.FieldType.object "GathersAllFaults$Finding")))) (d2 + 1) [.ref x0] h Q E := by
  refine gh_met (own := RX4) rfl (by decide +kernel) hst (by simp only [lg_sl_i, lg_sl_r, lg_sl_a, lg_sl_2, lg_sl_f, lg_sl_0]; decide) (fun X hXl hXn hret hnm hTb h0 eh C S0 => ?_)
  subst hXl
  have hlm := hCl.2.1
  have hd8 := hCl.2.2.1
  have hd2 : 1 ≤ d2 := Nat.le_trans (by decide) hd8
  have hLa := hCl.2.2.2
  have hd1 : 1 ≤ d2 + 1 := Nat.le_add_left _ _
  have hC9 := hCl
  replace hCl := hCl.1
  have hini : True := trivial
  unfold wb_X4_finding at hw
  refine GK.sub (lv' := [(0, .ref x0)]) [0] (by simp only [lv_args_i, lv_args_r, lv_args_a, lv_args_l, lv_args_f, lv_args_0]; rfl) ?_
  refine gk_aload_n (pc := 0) C.1 0 dX4_finding_0 rfl rfl ?_
  obtain ⟨ht, hw⟩ := hw
  refine gf_X4_21 (pc := 1) C ht dX4_finding_1 ?_
  refine gk_aload_n (pc := 4) C.1 0 dX4_finding_4 rfl rfl ?_
  obtain ⟨ht, hw⟩ := hw
  refine gf_X4_9 (pc := 5) C ht dX4_finding_5 (fun r_1 er_1 => ?_)
  replace hw := hw r_1 er_1
  obtain ⟨a_2, rfl, hw⟩ := hw
  obtain ⟨ht, hw⟩ := hw
  refine gh_len (pc := 8) (t0 := 4) (ty := tyA 112) C ht (by decide) rfl dX4_finding_8 ?_
  refine gk_icmp_ne (pc := 9) (tgt := 41) C.1 dX4_finding_9 (by decide) (fun c_3 => ?_) (fun c_3 => ?_)
  · replace hw := hw.1 c_3
    refine GK.sub (lv' := [(0, .ref x0)]) [0] rfl ?_
    exact wk_X4_finding_41 C hC9 S0 hret hXn hini hTb  _ _ hw
  · replace hw := hw.2 c_3
    refine gk_iconst (pc := 12) (v := 2) C.1 dX4_finding_12 (by decide) ?_
    refine gk_aload_n (pc := 13) C.1 0 dX4_finding_13 rfl rfl ?_
    obtain ⟨ht, hw⟩ := hw
    refine gf_X4_21 (pc := 14) C ht dX4_finding_14 ?_
    refine gk_imul (pc := 17) C.1 dX4_finding_17 ?_
    obtain ⟨hn0, hby, hr1, hr2, hw⟩ := hw
    refine gh_anew (pc := 18) (t := 112) (t0 := 4) (E := "GathersAllFaults$Finding") C ⟨by decide, by decide⟩ rfl q221 q222 hn0 hby (hlm.1 ▸ hr1) (hlm.2 ▸ hr2) dX4_finding_18 ?_
    obtain ⟨h_4, eh_4⟩ : ∃ z : HS, z = hNew h 112 (2 * (hI h 31 x0)).toNatClampNeg (2 * (hI h 31 x0)).toNatClampNeg := ⟨_, rfl⟩
    rw [← eh_4]
    obtain ⟨a_5, ea_5⟩ : ∃ z : Nat, z = hZ h := ⟨_, rfl⟩
    rw [← ea_5]
    replace hw := hw a_5 h_4 ea_5 eh_4
    refine gk_astore_n (pc := 21) (lv' := [(1, Value.ref a_5), (0, Value.ref x0)]) C.1 dX4_finding_21 rfl (by rw [hXn]; decide) (by first | rfl | simp [va_rf_S, va_rf_cat, cat_i, cat_a, cat_l, cat_f, fin4_0, fin4_1, fin4_2, fin4_3]) ?_
    refine gk_aload_n (pc := 22) C.1 1 dX4_finding_22 rfl rfl ?_
    obtain ⟨ht, hw⟩ := hw
    refine gf_X4_9 (pc := 23) C ht dX4_finding_23 (fun r_6 er_6 => ?_)
    replace hw := hw r_6 er_6
    refine gk_iconst (pc := 26) (v := 0) C.1 dX4_finding_26 (by decide) ?_
    refine gk_aload_n (pc := 27) C.1 0 dX4_finding_27 rfl rfl ?_
    refine gk_iconst (pc := 28) (v := 0) C.1 dX4_finding_28 (by decide) ?_
    refine gk_aload_n (pc := 29) C.1 1 dX4_finding_29 rfl rfl ?_
    obtain ⟨ht, hw⟩ := hw
    refine gf_X4_21 (pc := 30) C ht dX4_finding_30 ?_
    obtain ⟨a_7, rfl, hw⟩ := hw
    obtain ⟨z1, z2, z3, z4, z5, z6, z7, z8, hw⟩ := hw
    refine gh_copy (pc := 33) (t0 := 4) (E := "GathersAllFaults$Finding") C q1269 q1211 q1210 q171 z1 z2 (by decide) (by decide) rfl z3 z4 z5 z6 z7 (fun i hi y hy => as_X17_ok (z8 i hi) y hy) hd1 (Nat.le_of_ble_eq_true rfl) dX4_finding_33 ?_
    obtain ⟨h_8, eh_8⟩ : ∃ z : HS, z = sCpy h_4 a_5 a_7 (0 : Int32).toNatClampNeg (0 : Int32).toNatClampNeg (hI h_4 31 x0).toNatClampNeg := ⟨_, rfl⟩
    rw [← eh_8]
    replace hw := hw h_8 eh_8
    refine gk_aload_n (pc := 36) C.1 1 dX4_finding_36 rfl rfl ?_
    refine gk_aload_n (pc := 37) C.1 0 dX4_finding_37 rfl rfl ?_
    obtain ⟨ht, hw⟩ := hw
    refine gfp_X4_9 (pc := 38) (r := (some a_5)) C ht dX4_finding_38 (fun h_9 eh_9 => ?_)
    replace hw := hw h_9 eh_9
    refine GK.sub (lv' := [(0, .ref x0)]) [1] rfl ?_
    exact wk_X4_finding_41 C hC9 S0 hret hXn hini hTb  _ _ hw
/-! 163: GathersAllFaults$Sink.found(II)LGathersAllFaults$Found; -/
def wb_X4_found_69 (cl : CT) (lm : Nat × Nat) (Q : QT) (E : ET) (x0 : Nat) (x1 : Int32) (x2 : Int32) (h : HS) : Prop := (hT h x0 = 10) ∧ ((hT h x0 = 10) ∧ (∀ h_1 : HS, h_1 = sI h 33 x0 ((hI h 33 x0) + 1) → ((hT h_1 x0 = 10) ∧ (∀ r_2 : Option Nat, r_2 = hR h_1 32 x0 → ((hT h_1 x0 = 10) ∧ (∃ a_3 : Nat, r_2 = some a_3 ∧ (hT h_1 a_3 = 113 ∧ (vp_in ((hI h_1 33 x0) - 1) (hN h_1 a_3) ∧ (∀ r_4 : Option Nat, r_4 = hB h_1 a_3 ((hI h_1 33 x0) - 1).toNatClampNeg → (∃ a_5 : Nat, r_4 = some a_5 ∧ (dp_Found_of cl a_5 [.int x1, .int x2] h_1 (gR (fun r_7 h_6 => Q (some (va_rf r_7)) h_6)) E)))))))))))
theorem wk_X4_found_69 {X : Ev} {G : GG} {cl : CT} {lm : Nat × Nat} {Q : QT} {E : ET} {h0 : HS} {d2 : Nat} (C : HC X G RX4 cX4_found (d2 + 1)) (hCl : CallsOK (ev_l X) G d2 cl ∧ hLm G lm ∧ 8 ≤ d2 ∧ LamsOK (ev_l X) G d2 cl) (S0 : HS0 X h0) (hret : (ev_h X).sig.returnType = (Option.some (Jvm.ClassFile.FieldType.object "GathersAllFaults$Found"))) (hXn : ev_n X = 4) (hini : True) (hTb : (ev_c X).exceptionTable.toList = []) : ∀ (x0 : Nat) (x1 : Int32) (x2 : Int32) (h : HS), wb_X4_found_69 cl lm Q E x0 x1 x2 h → GH X G h (hQ X G h0 Q E) 69 [(0, .ref x0), (1, .int x1), (2, .int x2)] [] := by
  have hlm := hCl.2.1
  have hd8 := hCl.2.2.1
  have hd2 : 1 ≤ d2 := Nat.le_trans (by decide) hd8
  have hLa := hCl.2.2.2
  have hd1 : 1 ≤ d2 + 1 := Nat.le_add_left _ _
  have hC9 := hCl
  replace hCl := hCl.1
  intro x0 x1 x2 h hw
  unfold wb_X4_found_69 at hw
  refine gk_aload_n (pc := 69) C.1 0 dX4_found_69 rfl rfl ?_
  refine gk_dup (pc := 70) C.1 dX4_found_70 rfl ?_
  obtain ⟨ht, hw⟩ := hw
  refine gf_X4_25 (pc := 71) C ht dX4_found_71 ?_
  refine gk_iconst (pc := 74) (v := 1) C.1 dX4_found_74 (by decide) ?_
  refine gk_iadd (pc := 75) C.1 dX4_found_75 ?_
  obtain ⟨ht, hw⟩ := hw
  refine gfp_X4_25 (pc := 76) C ht dX4_found_76 (fun h_1 eh_1 => ?_)
  replace hw := hw h_1 eh_1
  refine gk_aload_n (pc := 79) C.1 0 dX4_found_79 rfl rfl ?_
  obtain ⟨ht, hw⟩ := hw
  refine gf_X4_17 (pc := 80) C ht dX4_found_80 (fun r_2 er_2 => ?_)
  replace hw := hw r_2 er_2
  refine gk_aload_n (pc := 83) C.1 0 dX4_found_83 rfl rfl ?_
  obtain ⟨ht, hw⟩ := hw
  refine gf_X4_25 (pc := 84) C ht dX4_found_84 ?_
  refine gk_iconst (pc := 87) (v := 1) C.1 dX4_found_87 (by decide) ?_
  refine gk_isub (pc := 88) C.1 dX4_found_88 ?_
  obtain ⟨a_3, rfl, hw⟩ := hw
  obtain ⟨ht, hi, hw⟩ := hw
  refine gh_aald (pc := 89) (t0 := 5) (E := "GathersAllFaults$Found") C ht (by decide) (by decide) rfl hi dX4_found_89 ?_
  obtain ⟨r_4, er_4⟩ : ∃ z : Option Nat, z = hB h_1 a_3 ((hI h_1 33 x0) - 1).toNatClampNeg := ⟨_, rfl⟩
  rw [← er_4]
  replace hw := hw r_4 er_4
  refine gk_iload_n (pc := 90) C.1 1 dX4_found_90 rfl rfl ?_
  refine gk_iload_n (pc := 91) C.1 2 dX4_found_91 rfl rfl ?_
  obtain ⟨a_5, rfl, hw⟩ := hw
  refine gc_X4_42 (pc := 92) (As := [.int x1, .int x2]) (rest := []) C hCl (Nat.le_refl _) hw rfl rfl (Nat.le_of_ble_eq_true rfl) dX4_found_92 (fun v9 h_6 hp => ?_) (fun q_8 h_9 hw ht9 => ?_)
  rotate_left
  · exact gx_out C S0 (by rw [hTb]; decide) ht9 hw
  clear hw
  obtain ⟨r_7, rfl, hw⟩ := hp
  refine GK.at (p2 := 95) rfl ?_
  exact gh_aret (pc := 95) (r := r_7) C S0 hret (Or.inl ⟨_, rfl⟩) dX4_found_95 hw
def wb_X4_found_41 (cl : CT) (lm : Nat × Nat) (Q : QT) (E : ET) (x0 : Nat) (x1 : Int32) (x2 : Int32) (h : HS) : Prop := (hT h x0 = 10) ∧ (∀ r_1 : Option Nat, r_1 = hR h 32 x0 → ((hT h x0 = 10) ∧ (∃ a_2 : Nat, r_1 = some a_2 ∧ (hT h a_2 = 113 ∧ (vp_in (hI h 33 x0) (hN h a_2) ∧ (∀ r_3 : Option Nat, r_3 = hB h a_2 (hI h 33 x0).toNatClampNeg → ((r_3 = none → ((hT h x0 = 10) ∧ (∀ r_6 : Option Nat, r_6 = hR h 32 x0 → ((hT h x0 = 10) ∧ (hZ h + 1 ≤ lm.1 ∧ (hL h + 2 ≤ lm.2 ∧ (∀ (a_8 : Nat) (h_7 : HS), a_8 = hZ h → h_7 = hNew h 8 0 2 → (cl 222 (.ref a_8 :: []) h_7 (gV (fun h_9 => ∃ a_12 : Nat, r_6 = some a_12 ∧ (hT h_9 a_12 = 113 ∧ (vp_in (hI h 33 x0) (hN h_9 a_12) ∧ (as_X13 h_9 (some a_8) ∧ (∀ h_13 : HS, h_13 = sB h_9 a_12 (hI h 33 x0).toNatClampNeg (some a_8) → (wb_X4_found_69 cl lm Q E x0 x1 x2 h_13))))))) E)))))))) ∧ (∀ a_5 : Nat, r_3 = some a_5 → (wb_X4_found_69 cl lm Q E x0 x1 x2 h)))))))))
theorem wk_X4_found_41 {X : Ev} {G : GG} {cl : CT} {lm : Nat × Nat} {Q : QT} {E : ET} {h0 : HS} {d2 : Nat} (C : HC X G RX4 cX4_found (d2 + 1)) (hCl : CallsOK (ev_l X) G d2 cl ∧ hLm G lm ∧ 8 ≤ d2 ∧ LamsOK (ev_l X) G d2 cl) (S0 : HS0 X h0) (hret : (ev_h X).sig.returnType = (Option.some (Jvm.ClassFile.FieldType.object "GathersAllFaults$Found"))) (hXn : ev_n X = 4) (hini : True) (hTb : (ev_c X).exceptionTable.toList = []) : ∀ (x0 : Nat) (x1 : Int32) (x2 : Int32) (h : HS), wb_X4_found_41 cl lm Q E x0 x1 x2 h → GH X G h (hQ X G h0 Q E) 41 [(0, .ref x0), (1, .int x1), (2, .int x2)] [] := by
  have hlm := hCl.2.1
  have hd8 := hCl.2.2.1
  have hd2 : 1 ≤ d2 := Nat.le_trans (by decide) hd8
  have hLa := hCl.2.2.2
  have hd1 : 1 ≤ d2 + 1 := Nat.le_add_left _ _
  have hC9 := hCl
  replace hCl := hCl.1
  intro x0 x1 x2 h hw
  unfold wb_X4_found_41 at hw
  refine gk_aload_n (pc := 41) C.1 0 dX4_found_41 rfl rfl ?_
  obtain ⟨ht, hw⟩ := hw
  refine gf_X4_17 (pc := 42) C ht dX4_found_42 (fun r_1 er_1 => ?_)
  replace hw := hw r_1 er_1
  refine gk_aload_n (pc := 45) C.1 0 dX4_found_45 rfl rfl ?_
  obtain ⟨ht, hw⟩ := hw
  refine gf_X4_25 (pc := 46) C ht dX4_found_46 ?_
  obtain ⟨a_2, rfl, hw⟩ := hw
  obtain ⟨ht, hi, hw⟩ := hw
  refine gh_aald (pc := 49) (t0 := 5) (E := "GathersAllFaults$Found") C ht (by decide) (by decide) rfl hi dX4_found_49 ?_
  obtain ⟨r_3, er_3⟩ : ∃ z : Option Nat, z = hB h a_2 (hI h 33 x0).toNatClampNeg := ⟨_, rfl⟩
  rw [← er_3]
  replace hw := hw r_3 er_3
  refine gk_ifnonnull (pc := 50) (tgt := 69) C.1 dX4_found_50 (by decide) (fun c_4 => ?_) (fun c_4 => ?_)
  · obtain ⟨a_5, c_4⟩ := Option.ne_none_iff_exists'.mp c_4
    replace hw := hw.2 a_5 c_4
    subst c_4
    refine GK.sub (lv' := [(0, .ref x0), (1, .int x1), (2, .int x2)]) [0, 1, 2] rfl ?_
    exact wk_X4_found_69 C hC9 S0 hret hXn hini hTb  _ _ _ _ hw
  · replace hw := hw.1 c_4
    subst c_4
    refine gk_aload_n (pc := 53) C.1 0 dX4_found_53 rfl rfl ?_
    obtain ⟨ht, hw⟩ := hw
    refine gf_X4_17 (pc := 54) C ht dX4_found_54 (fun r_6 er_6 => ?_)
    replace hw := hw r_6 er_6
    refine gk_aload_n (pc := 57) C.1 0 dX4_found_57 rfl rfl ?_
    obtain ⟨ht, hw⟩ := hw
    refine gf_X4_25 (pc := 58) C ht dX4_found_58 ?_
    obtain ⟨hr1, hr2, hw⟩ := hw
    refine gn_X4_15 (pc := 61) C (hlm.1 ▸ hr1) (hlm.2 ▸ hr2) dX4_found_61 (fun h_7 eh_7 => ?_)
    obtain ⟨a_8, ea_8⟩ : ∃ z : Nat, z = hZ h := ⟨_, rfl⟩
    rw [← ea_8]
    replace hw := hw a_8 h_7 ea_8 eh_7
    refine gk_dup (pc := 64) C.1 dX4_found_64 rfl ?_
    refine gc_X4_41 (pc := 65) (As := []) (rest := [.ref a_8, .int (hI h 33 x0), va_rf r_6]) C hCl (Nat.le_refl _) hw rfl rfl (by simp [va_rf_S, va_rf_cat, cat_i, cat_a, cat_l, cat_f, fin4_0, fin4_1, fin4_2, fin4_3]) dX4_found_65 (fun v9 h_9 hp => ?_) (fun q_10 h_11 hw ht9 => ?_)
    rotate_left
    · exact gx_out C S0 (by rw [hTb]; decide) ht9 hw
    clear hw
    obtain ⟨rfl, hw⟩ := hp
    refine GK.at (p2 := 68) rfl ?_
    obtain ⟨a_12, rfl, hw⟩ := hw
    obtain ⟨ht, hi, hs, hw⟩ := hw
    refine gh_aast (pc := 68) (r := (some a_8)) (t0 := 5) (E := "GathersAllFaults$Found") C ht (by decide) (by decide) rfl (as_X13_ok hs) hi dX4_found_68 ?_
    obtain ⟨h_13, eh_13⟩ : ∃ z : HS, z = sB h_9 a_12 (hI h 33 x0).toNatClampNeg (some a_8) := ⟨_, rfl⟩
    rw [← eh_13]
    replace hw := hw h_13 eh_13
    refine GK.sub (lv' := [(0, .ref x0), (1, .int x1), (2, .int x2)]) [0, 1, 2] rfl ?_
    exact wk_X4_found_69 C hC9 S0 hret hXn hini hTb  _ _ _ _ hw
def wb_X4_found (cl : CT) (lm : Nat × Nat) (Q : QT) (E : ET) (x0 : Nat) (x1 : Int32) (x2 : Int32) (h : HS) : Prop := (hT h x0 = 10) ∧ ((hT h x0 = 10) ∧ (∀ r_1 : Option Nat, r_1 = hR h 32 x0 → (∃ a_2 : Nat, r_1 = some a_2 ∧ (hT h a_2 = 113 ∧ (((¬ (hI h 33 x0) = (nI (hN h a_2)) → (wb_X4_found_41 cl lm Q E x0 x1 x2 h)) ∧ ((hI h 33 x0) = (nI (hN h a_2)) → ((hT h x0 = 10) ∧ (¬ (2 * (hI h 33 x0)) < 0 ∧ ((2 * (hI h 33 x0)).toNatClampNeg * 4 ≤ 536870912 ∧ (hZ h + 1 ≤ lm.1 ∧ (hL h + (2 * (hI h 33 x0)).toNatClampNeg ≤ lm.2 ∧ (∀ (a_5 : Nat) (h_4 : HS), a_5 = hZ h → h_4 = hNew h 113 (2 * (hI h 33 x0)).toNatClampNeg (2 * (hI h 33 x0)).toNatClampNeg → ((hT h_4 x0 = 10) ∧ (∀ r_6 : Option Nat, r_6 = hR h_4 32 x0 → ((hT h_4 x0 = 10) ∧ (∃ a_7 : Nat, r_6 = some a_7 ∧ (hT h_4 a_7 = 113 ∧ (hT h_4 a_5 = 113 ∧ (¬ (0 : Int32) < 0 ∧ (¬ (0 : Int32) < 0 ∧ (¬ (hI h_4 33 x0) < 0 ∧ ((0 : Int32).toNatClampNeg + (hI h_4 33 x0).toNatClampNeg ≤ hN h_4 a_7 ∧ ((0 : Int32).toNatClampNeg + (hI h_4 33 x0).toNatClampNeg ≤ hN h_4 a_5 ∧ ((∀ i : Nat, i < (hI h_4 33 x0).toNatClampNeg → as_X13 h_4 (hB h_4 a_7 ((0 : Int32).toNatClampNeg + i))) ∧ (∀ h_8 : HS, h_8 = sCpy h_4 a_5 a_7 (0 : Int32).toNatClampNeg (0 : Int32).toNatClampNeg (hI h_4 33 x0).toNatClampNeg → ((hT h_8 x0 = 10) ∧ (∀ h_9 : HS, h_9 = sR h_8 32 x0 (some a_5) → (wb_X4_found_41 cl lm Q E x0 x1 x2 h_9)))))))))))))))))))))))))))))
theorem wx_X4_found {l : Launch} (hst : l.stackTraces = false) {G : GG} {cl : CT} {lm : Nat × Nat} {Q : QT} {E : ET} {d2 : Nat} (hCl : CallsOK l G d2 cl ∧ hLm G lm ∧ 8 ≤ d2 ∧ LamsOK l G d2 cl) {x0 : Nat} {x1 : Int32} {x2 : Int32} {h : HS} (hw : wb_X4_found cl lm Q E x0 x1 x2 h) : HMet l G yX4_found (ws_ yX4_found cX4_found 4 ((Option.some (Jvm.ClassFile.FieldType.object "GathersAllFaults$Found")))) (d2 + 1) [.ref x0, .int x1, .int x2] h Q E := by
  refine gh_met (own := RX4) rfl (by decide +kernel) hst (by simp only [lg_sl_i, lg_sl_r, lg_sl_a, lg_sl_2, lg_sl_f, lg_sl_0]; decide) (fun X hXl hXn hret hnm hTb h0 eh C S0 => ?_)
  subst hXl
  have hlm := hCl.2.1
  have hd8 := hCl.2.2.1
  have hd2 : 1 ≤ d2 := Nat.le_trans (by decide) hd8
  have hLa := hCl.2.2.2
  have hd1 : 1 ≤ d2 + 1 := Nat.le_add_left _ _
  have hC9 := hCl
  replace hCl := hCl.1
  have hini : True := trivial
  unfold wb_X4_found at hw
  refine GK.sub (lv' := [(0, .ref x0), (1, .int x1), (2, .int x2)]) [0, 1, 2] (by simp only [lv_args_i, lv_args_r, lv_args_a, lv_args_l, lv_args_f, lv_args_0]; rfl) ?_
  refine gk_aload_n (pc := 0) C.1 0 dX4_found_0 rfl rfl ?_
  obtain ⟨ht, hw⟩ := hw
  refine gf_X4_25 (pc := 1) C ht dX4_found_1 ?_
  refine gk_aload_n (pc := 4) C.1 0 dX4_found_4 rfl rfl ?_
  obtain ⟨ht, hw⟩ := hw
  refine gf_X4_17 (pc := 5) C ht dX4_found_5 (fun r_1 er_1 => ?_)
  replace hw := hw r_1 er_1
  obtain ⟨a_2, rfl, hw⟩ := hw
  obtain ⟨ht, hw⟩ := hw
  refine gh_len (pc := 8) (t0 := 5) (ty := tyA 113) C ht (by decide) rfl dX4_found_8 ?_
  refine gk_icmp_ne (pc := 9) (tgt := 41) C.1 dX4_found_9 (by decide) (fun c_3 => ?_) (fun c_3 => ?_)
  · replace hw := hw.1 c_3
    refine GK.sub (lv' := [(0, .ref x0), (1, .int x1), (2, .int x2)]) [0, 1, 2] rfl ?_
    exact wk_X4_found_41 C hC9 S0 hret hXn hini hTb  _ _ _ _ hw
  · replace hw := hw.2 c_3
    refine gk_iconst (pc := 12) (v := 2) C.1 dX4_found_12 (by decide) ?_
    refine gk_aload_n (pc := 13) C.1 0 dX4_found_13 rfl rfl ?_
    obtain ⟨ht, hw⟩ := hw
    refine gf_X4_25 (pc := 14) C ht dX4_found_14 ?_
    refine gk_imul (pc := 17) C.1 dX4_found_17 ?_
    obtain ⟨hn0, hby, hr1, hr2, hw⟩ := hw
    refine gh_anew (pc := 18) (t := 113) (t0 := 5) (E := "GathersAllFaults$Found") C ⟨by decide, by decide⟩ rfl q223 q224 hn0 hby (hlm.1 ▸ hr1) (hlm.2 ▸ hr2) dX4_found_18 ?_
    obtain ⟨h_4, eh_4⟩ : ∃ z : HS, z = hNew h 113 (2 * (hI h 33 x0)).toNatClampNeg (2 * (hI h 33 x0)).toNatClampNeg := ⟨_, rfl⟩
    rw [← eh_4]
    obtain ⟨a_5, ea_5⟩ : ∃ z : Nat, z = hZ h := ⟨_, rfl⟩
    rw [← ea_5]
    replace hw := hw a_5 h_4 ea_5 eh_4
    refine gk_astore_n (pc := 21) (lv' := [(3, Value.ref a_5), (0, Value.ref x0), (1, Value.int x1), (2, Value.int x2)]) C.1 dX4_found_21 rfl (by rw [hXn]; decide) (by first | rfl | simp [va_rf_S, va_rf_cat, cat_i, cat_a, cat_l, cat_f, fin4_0, fin4_1, fin4_2, fin4_3]) ?_
    refine gk_aload_n (pc := 22) C.1 1 dX4_found_22 rfl rfl ?_
    obtain ⟨ht, hw⟩ := hw
    refine gf_X4_17 (pc := 23) C ht dX4_found_23 (fun r_6 er_6 => ?_)
    replace hw := hw r_6 er_6
    refine gk_iconst (pc := 26) (v := 0) C.1 dX4_found_26 (by decide) ?_
    refine gk_aload_n (pc := 27) C.1 0 dX4_found_27 rfl rfl ?_
    refine gk_iconst (pc := 28) (v := 0) C.1 dX4_found_28 (by decide) ?_
    refine gk_aload_n (pc := 29) C.1 1 dX4_found_29 rfl rfl ?_
    obtain ⟨ht, hw⟩ := hw
    refine gf_X4_25 (pc := 30) C ht dX4_found_30 ?_
    obtain ⟨a_7, rfl, hw⟩ := hw
    obtain ⟨z1, z2, z3, z4, z5, z6, z7, z8, hw⟩ := hw
    refine gh_copy (pc := 33) (t0 := 5) (E := "GathersAllFaults$Found") C q1269 q1211 q1210 q171 z1 z2 (by decide) (by decide) rfl z3 z4 z5 z6 z7 (fun i hi y hy => as_X13_ok (z8 i hi) y hy) hd1 (Nat.le_of_ble_eq_true rfl) dX4_found_33 ?_
    obtain ⟨h_8, eh_8⟩ : ∃ z : HS, z = sCpy h_4 a_5 a_7 (0 : Int32).toNatClampNeg (0 : Int32).toNatClampNeg (hI h_4 33 x0).toNatClampNeg := ⟨_, rfl⟩
    rw [← eh_8]
    replace hw := hw h_8 eh_8
    refine gk_aload_n (pc := 36) C.1 1 dX4_found_36 rfl rfl ?_
    refine gk_aload_n (pc := 37) C.1 0 dX4_found_37 rfl rfl ?_
    obtain ⟨ht, hw⟩ := hw
    refine gfp_X4_17 (pc := 38) (r := (some a_5)) C ht dX4_found_38 (fun h_9 eh_9 => ?_)
    replace hw := hw h_9 eh_9
    refine GK.sub (lv' := [(0, .ref x0), (1, .int x1), (2, .int x2)]) [1, 2, 3] rfl ?_
    exact wk_X4_found_41 C hC9 S0 hret hXn hini hTb  _ _ _ _ hw
/-! 164: GathersAllFaults$Sink.<init>()V -/
def wb_X4_init (cl : CT) (lm : Nat × Nat) (Q : QT) (E : ET) (x0 : Nat) (h : HS) : Prop := ¬ (8 : Int32) < 0 ∧ ((8 : Int32).toNatClampNeg * 4 ≤ 536870912 ∧ (hZ h + 1 ≤ lm.1 ∧ (hL h + (8 : Int32).toNatClampNeg ≤ lm.2 ∧ (∀ (a_2 : Nat) (h_1 : HS), a_2 = hZ h → h_1 = hNew h 112 (8 : Int32).toNatClampNeg (8 : Int32).toNatClampNeg → ((hT h_1 x0 = 10) ∧ (∀ h_3 : HS, h_3 = sR h_1 30 x0 (some a_2) → (¬ (32 : Int32) < 0 ∧ ((32 : Int32).toNatClampNeg * 4 ≤ 536870912 ∧ (hZ h_3 + 1 ≤ lm.1 ∧ (hL h_3 + (32 : Int32).toNatClampNeg ≤ lm.2 ∧ (∀ (a_5 : Nat) (h_4 : HS), a_5 = hZ h_3 → h_4 = hNew h_3 113 (32 : Int32).toNatClampNeg (32 : Int32).toNatClampNeg → ((hT h_4 x0 = 10) ∧ (∀ h_6 : HS, h_6 = sR h_4 32 x0 (some a_5) → (Q none h_6))))))))))))))
theorem wx_X4_init {l : Launch} (hst : l.stackTraces = false) {G : GG} {cl : CT} {lm : Nat × Nat} {Q : QT} {E : ET} {d2 : Nat} (hCl : CallsOK l G d2 cl ∧ hLm G lm ∧ 8 ≤ d2 ∧ LamsOK l G d2 cl) {x0 : Nat} {h : HS} (hw : wb_X4_init cl lm Q E x0 h) : HMet l G yX4_init (ws_ yX4_init cX4_init 1 ((Option.none : Option Jvm.ClassFile.FieldType))) (d2 + 1) [.ref x0] h Q E := by
  refine gh_met (own := RX4) rfl (by decide +kernel) hst (by simp only [lg_sl_i, lg_sl_r, lg_sl_a, lg_sl_2, lg_sl_f, lg_sl_0]; decide) (fun X hXl hXn hret hnm hTb h0 eh C S0 => ?_)
  subst hXl
  have hlm := hCl.2.1
  have hd8 := hCl.2.2.1
  have hd2 : 1 ≤ d2 := Nat.le_trans (by decide) hd8
  have hLa := hCl.2.2.2
  have hd1 : 1 ≤ d2 + 1 := Nat.le_add_left _ _
  have hC9 := hCl
  replace hCl := hCl.1
  have hini : (ev_h X).name = "<init>" := hnm.1
  unfold wb_X4_init at hw
  refine GK.sub (lv' := [(0, .ref x0)]) [0] (by simp only [lv_args_i, lv_args_r, lv_args_a, lv_args_l, lv_args_f, lv_args_0]; rfl) ?_
  refine gk_aload_n (pc := 0) C.1 0 dX4_init_0 rfl rfl ?_
  refine gh_obj (pc := 1) C hd1 q220 (Nat.le_of_ble_eq_true rfl) dX4_init_1 ?_
  refine gk_aload_n (pc := 4) C.1 0 dX4_init_4 rfl rfl ?_
  refine gk_bipush (pc := 5) (v := 8) C.1 dX4_init_5 (by decide) ?_
  obtain ⟨hn0, hby, hr1, hr2, hw⟩ := hw
  refine gh_anew (pc := 7) (t := 112) (t0 := 4) (E := "GathersAllFaults$Finding") C ⟨by decide, by decide⟩ rfl q221 q222 hn0 hby (hlm.1 ▸ hr1) (hlm.2 ▸ hr2) dX4_init_7 ?_
  obtain ⟨h_1, eh_1⟩ : ∃ z : HS, z = hNew h 112 (8 : Int32).toNatClampNeg (8 : Int32).toNatClampNeg := ⟨_, rfl⟩
  rw [← eh_1]
  obtain ⟨a_2, ea_2⟩ : ∃ z : Nat, z = hZ h := ⟨_, rfl⟩
  rw [← ea_2]
  replace hw := hw a_2 h_1 ea_2 eh_1
  obtain ⟨ht, hw⟩ := hw
  refine gfp_X4_9 (pc := 10) (r := (some a_2)) C ht dX4_init_10 (fun h_3 eh_3 => ?_)
  replace hw := hw h_3 eh_3
  refine gk_aload_n (pc := 13) C.1 0 dX4_init_13 rfl rfl ?_
  refine gk_bipush (pc := 14) (v := 32) C.1 dX4_init_14 (by decide) ?_
  obtain ⟨hn0, hby, hr1, hr2, hw⟩ := hw
  refine gh_anew (pc := 16) (t := 113) (t0 := 5) (E := "GathersAllFaults$Found") C ⟨by decide, by decide⟩ rfl q223 q224 hn0 hby (hlm.1 ▸ hr1) (hlm.2 ▸ hr2) dX4_init_16 ?_
  obtain ⟨h_4, eh_4⟩ : ∃ z : HS, z = hNew h_3 113 (32 : Int32).toNatClampNeg (32 : Int32).toNatClampNeg := ⟨_, rfl⟩
  rw [← eh_4]
  obtain ⟨a_5, ea_5⟩ : ∃ z : Nat, z = hZ h_3 := ⟨_, rfl⟩
  rw [← ea_5]
  replace hw := hw a_5 h_4 ea_5 eh_4
  obtain ⟨ht, hw⟩ := hw
  refine gfp_X4_17 (pc := 19) (r := (some a_5)) C ht dX4_init_19 (fun h_6 eh_6 => ?_)
  replace hw := hw h_6 eh_6
  exact gh_vret (pc := 22) C S0 hret dX4_init_22 hw
/-! 165: GathersAllFaults$Nothing.equals(Ljava/lang/Object;)Z -/
def wb_X5_equals (cl : CT) (lm : Nat × Nat) (Q : QT) (E : ET) (x0 : Nat) (x1 : Option Nat) (h : HS) : Prop := (∃ a_1 : Nat, x1 = some a_1 ∧ ((hT h a_1 = 3) ∧ (Q (some (.int 1)) h))) ∨ ((∀ a_1 : Nat, x1 = some a_1 → (hT h a_1 = 2 ∨ hT h a_1 = 4 ∨ hT h a_1 = 5 ∨ hT h a_1 = 300)) ∧ (Q (some (.int 0)) h))
theorem wx_X5_equals {l : Launch} (hst : l.stackTraces = false) {G : GG} {cl : CT} {lm : Nat × Nat} {Q : QT} {E : ET} {d2 : Nat} (hCl : CallsOK l G d2 cl ∧ hLm G lm ∧ 8 ≤ d2 ∧ LamsOK l G d2 cl) {x0 : Nat} {x1 : Option Nat} {h : HS} (hw : wb_X5_equals cl lm Q E x0 x1 h) : HMet l G yX5_equals (ws_ yX5_equals cX5_equals 2 ((Option.some Jvm.ClassFile.FieldType.boolean))) (d2 + 1) [.ref x0, va_rf x1] h Q E := by
  refine gh_met (own := RX5) rfl (by decide +kernel) hst (by simp only [lg_sl_i, lg_sl_r, lg_sl_a, lg_sl_2, lg_sl_f, lg_sl_0]; decide) (fun X hXl hXn hret hnm hTb h0 eh C S0 => ?_)
  subst hXl
  have hlm := hCl.2.1
  have hd8 := hCl.2.2.1
  have hd2 : 1 ≤ d2 := Nat.le_trans (by decide) hd8
  have hLa := hCl.2.2.2
  have hd1 : 1 ≤ d2 + 1 := Nat.le_add_left _ _
  have hC9 := hCl
  replace hCl := hCl.1
  have hini : True := trivial
  unfold wb_X5_equals at hw
  refine GK.sub (lv' := [(0, .ref x0), (1, va_rf x1)]) [0, 1] (by simp only [lv_args_i, lv_args_r, lv_args_a, lv_args_l, lv_args_f, lv_args_0]; rfl) ?_
  refine gk_qload_n (pc := 0) C.1 1 dX5_equals_0 rfl rfl ?_
  rcases hw with ⟨a_1, rfl, hs, hw⟩ | ⟨hs, hw⟩
  · skip
    refine gi_X5_7_y (pc := 1) C hs dX5_equals_1 ?_
    exact gh_zret (pc := 4) C S0 hret dX5_equals_4 bz1 hw
  · refine gi_X5_7_n (pc := 1) (r := x1) C hs dX5_equals_1 ?_
    exact gh_zret (pc := 4) C S0 hret dX5_equals_4 bz0 hw
/-! 166: GathersAllFaults$Nothing.hashCode()I -/
def wb_X5_hashCode (cl : CT) (lm : Nat × Nat) (Q : QT) (E : ET) (x0 : Nat) (h : HS) : Prop := Q (some (.int 5)) h
theorem wx_X5_hashCode {l : Launch} (hst : l.stackTraces = false) {G : GG} {cl : CT} {lm : Nat × Nat} {Q : QT} {E : ET} {d2 : Nat} (hCl : CallsOK l G d2 cl ∧ hLm G lm ∧ 8 ≤ d2 ∧ LamsOK l G d2 cl) {x0 : Nat} {h : HS} (hw : wb_X5_hashCode cl lm Q E x0 h) : HMet l G yX5_hashCode (ws_ yX5_hashCode cX5_hashCode 1 ((Option.some Jvm.ClassFile.FieldType.int))) (d2 + 1) [.ref x0] h Q E := by
  refine gh_met (own := RX5) rfl (by decide +kernel) hst (by simp only [lg_sl_i, lg_sl_r, lg_sl_a, lg_sl_2, lg_sl_f, lg_sl_0]; decide) (fun X hXl hXn hret hnm hTb h0 eh C S0 => ?_)
  subst hXl
  have hlm := hCl.2.1
  have hd8 := hCl.2.2.1
  have hd2 : 1 ≤ d2 := Nat.le_trans (by decide) hd8
  have hLa := hCl.2.2.2
  have hd1 : 1 ≤ d2 + 1 := Nat.le_add_left _ _
  have hC9 := hCl
  replace hCl := hCl.1
  have hini : True := trivial
  unfold wb_X5_hashCode at hw
  refine GK.sub (lv' := [(0, .ref x0)]) [0] (by simp only [lv_args_i, lv_args_r, lv_args_a, lv_args_l, lv_args_f, lv_args_0]; rfl) ?_
  refine gk_iconst (pc := 0) (v := 5) C.1 dX5_hashCode_0 (by decide) ?_
  exact gh_iret (pc := 1) C S0 hret dX5_hashCode_1 hw
/-! 167: GathersAllFaults$Nothing.<init>()V -/
def wb_X5_init (cl : CT) (lm : Nat × Nat) (Q : QT) (E : ET) (x0 : Nat) (h : HS) : Prop := cl 144 (.ref x0 :: []) h (gV (fun h_1 => Q none h_1)) E
theorem wx_X5_init {l : Launch} (hst : l.stackTraces = false) {G : GG} {cl : CT} {lm : Nat × Nat} {Q : QT} {E : ET} {d2 : Nat} (hCl : CallsOK l G d2 cl ∧ hLm G lm ∧ 8 ≤ d2 ∧ LamsOK l G d2 cl) {x0 : Nat} {h : HS} (hw : wb_X5_init cl lm Q E x0 h) : HMet l G yX5_init (ws_ yX5_init cX5_init 1 ((Option.none : Option Jvm.ClassFile.FieldType))) (d2 + 1) [.ref x0] h Q E := by
  refine gh_met (own := RX5) rfl (by decide +kernel) hst (by simp only [lg_sl_i, lg_sl_r, lg_sl_a, lg_sl_2, lg_sl_f, lg_sl_0]; decide) (fun X hXl hXn hret hnm hTb h0 eh C S0 => ?_)
  subst hXl
  have hlm := hCl.2.1
  have hd8 := hCl.2.2.1
  have hd2 : 1 ≤ d2 := Nat.le_trans (by decide) hd8
  have hLa := hCl.2.2.2
  have hd1 : 1 ≤ d2 + 1 := Nat.le_add_left _ _
  have hC9 := hCl
  replace hCl := hCl.1
  have hini : (ev_h X).name = "<init>" := hnm.1
  unfold wb_X5_init at hw
  refine GK.sub (lv' := [(0, .ref x0)]) [0] (by simp only [lv_args_i, lv_args_r, lv_args_a, lv_args_l, lv_args_f, lv_args_0]; rfl) ?_
  refine gk_aload_n (pc := 0) C.1 0 dX5_init_0 rfl rfl ?_
  refine gc_X5_1 (pc := 1) (As := []) (rest := []) C hCl (Nat.le_refl _) hw rfl rfl (Nat.le_of_ble_eq_true rfl) dX5_init_1 (fun v9 h_1 hp => ?_) (fun q_2 h_3 hw ht9 => ?_)
  rotate_left
  · exact gx_out C S0 (by rw [hTb]; decide) ht9 hw
  clear hw
  obtain ⟨rfl, hw⟩ := hp
  refine GK.at (p2 := 4) rfl ?_
  exact gh_vret (pc := 4) C S0 hret dX5_init_4 hw
/-! 168: GathersAllFaults$Nothing.kind()I -/
def wb_X5_kind (cl : CT) (lm : Nat × Nat) (Q : QT) (E : ET) (x0 : Nat) (h : HS) : Prop := Q (some (.int 1)) h
theorem wx_X5_kind {l : Launch} (hst : l.stackTraces = false) {G : GG} {cl : CT} {lm : Nat × Nat} {Q : QT} {E : ET} {d2 : Nat} (hCl : CallsOK l G d2 cl ∧ hLm G lm ∧ 8 ≤ d2 ∧ LamsOK l G d2 cl) {x0 : Nat} {h : HS} (hw : wb_X5_kind cl lm Q E x0 h) : HMet l G yX5_kind (ws_ yX5_kind cX5_kind 1 ((Option.some Jvm.ClassFile.FieldType.int))) (d2 + 1) [.ref x0] h Q E := by
  refine gh_met (own := RX5) rfl (by decide +kernel) hst (by simp only [lg_sl_i, lg_sl_r, lg_sl_a, lg_sl_2, lg_sl_f, lg_sl_0]; decide) (fun X hXl hXn hret hnm hTb h0 eh C S0 => ?_)
  subst hXl
  have hlm := hCl.2.1
  have hd8 := hCl.2.2.1
  have hd2 : 1 ≤ d2 := Nat.le_trans (by decide) hd8
  have hLa := hCl.2.2.2
  have hd1 : 1 ≤ d2 + 1 := Nat.le_add_left _ _
  have hC9 := hCl
  replace hCl := hCl.1
  have hini : True := trivial
  unfold wb_X5_kind at hw
  refine GK.sub (lv' := [(0, .ref x0)]) [0] (by simp only [lv_args_i, lv_args_r, lv_args_a, lv_args_l, lv_args_f, lv_args_0]; rfl) ?_
  refine gk_iconst (pc := 0) (v := 1) C.1 dX5_kind_0 (by decide) ?_
  exact gh_iret (pc := 1) C S0 hret dX5_kind_1 hw
/-! 169: GathersAllFaults$Nothing.lay(LGathersAllFaults$Row;I)V -/
def wb_X5_lay (cl : CT) (lm : Nat × Nat) (Q : QT) (E : ET) (x0 : Nat) (x1 : Option Nat) (x2 : Int32) (h : HS) : Prop := Q none h
theorem wx_X5_lay {l : Launch} (hst : l.stackTraces = false) {G : GG} {cl : CT} {lm : Nat × Nat} {Q : QT} {E : ET} {d2 : Nat} (hCl : CallsOK l G d2 cl ∧ hLm G lm ∧ 8 ≤ d2 ∧ LamsOK l G d2 cl) {x0 : Nat} {x1 : Option Nat} {x2 : Int32} {h : HS} (hw : wb_X5_lay cl lm Q E x0 x1 x2 h) : HMet l G yX5_lay (ws_ yX5_lay cX5_lay 3 ((Option.none : Option Jvm.ClassFile.FieldType))) (d2 + 1) [.ref x0, va_rf x1, .int x2] h Q E := by
  refine gh_met (own := RX5) rfl (by decide +kernel) hst (by simp only [lg_sl_i, lg_sl_r, lg_sl_a, lg_sl_2, lg_sl_f, lg_sl_0]; decide) (fun X hXl hXn hret hnm hTb h0 eh C S0 => ?_)
  subst hXl
  have hlm := hCl.2.1
  have hd8 := hCl.2.2.1
  have hd2 : 1 ≤ d2 := Nat.le_trans (by decide) hd8
  have hLa := hCl.2.2.2
  have hd1 : 1 ≤ d2 + 1 := Nat.le_add_left _ _
  have hC9 := hCl
  replace hCl := hCl.1
  have hini : True := trivial
  unfold wb_X5_lay at hw
  refine GK.sub (lv' := [(0, .ref x0), (1, va_rf x1), (2, .int x2)]) [0, 1, 2] (by simp only [lv_args_i, lv_args_r, lv_args_a, lv_args_l, lv_args_f, lv_args_0]; rfl) ?_
  exact gh_vret (pc := 0) C S0 hret dX5_lay_0 hw
/-! 170: GathersAllFaults$Nothing.many()I -/
def wb_X5_many (cl : CT) (lm : Nat × Nat) (Q : QT) (E : ET) (x0 : Nat) (h : HS) : Prop := Q (some (.int 0)) h
theorem wx_X5_many {l : Launch} (hst : l.stackTraces = false) {G : GG} {cl : CT} {lm : Nat × Nat} {Q : QT} {E : ET} {d2 : Nat} (hCl : CallsOK l G d2 cl ∧ hLm G lm ∧ 8 ≤ d2 ∧ LamsOK l G d2 cl) {x0 : Nat} {h : HS} (hw : wb_X5_many cl lm Q E x0 h) : HMet l G yX5_many (ws_ yX5_many cX5_many 1 ((Option.some Jvm.ClassFile.FieldType.int))) (d2 + 1) [.ref x0] h Q E := by
  refine gh_met (own := RX5) rfl (by decide +kernel) hst (by simp only [lg_sl_i, lg_sl_r, lg_sl_a, lg_sl_2, lg_sl_f, lg_sl_0]; decide) (fun X hXl hXn hret hnm hTb h0 eh C S0 => ?_)
  subst hXl
  have hlm := hCl.2.1
  have hd8 := hCl.2.2.1
  have hd2 : 1 ≤ d2 := Nat.le_trans (by decide) hd8
  have hLa := hCl.2.2.2
  have hd1 : 1 ≤ d2 + 1 := Nat.le_add_left _ _
  have hC9 := hCl
  replace hCl := hCl.1
  have hini : True := trivial
  unfold wb_X5_many at hw
  refine GK.sub (lv' := [(0, .ref x0)]) [0] (by simp only [lv_args_i, lv_args_r, lv_args_a, lv_args_l, lv_args_f, lv_args_0]; rfl) ?_
  refine gk_iconst (pc := 0) (v := 0) C.1 dX5_many_0 (by decide) ?_
  exact gh_iret (pc := 1) C S0 hret dX5_many_1 hw
/-! 171: GathersAllFaults$Nothing.size()I -/
def wb_X5_size (cl : CT) (lm : Nat × Nat) (Q : QT) (E : ET) (x0 : Nat) (h : HS) : Prop := Q (some (.int 1)) h
theorem wx_X5_size {l : Launch} (hst : l.stackTraces = false) {G : GG} {cl : CT} {lm : Nat × Nat} {Q : QT} {E : ET} {d2 : Nat} (hCl : CallsOK l G d2 cl ∧ hLm G lm ∧ 8 ≤ d2 ∧ LamsOK l G d2 cl) {x0 : Nat} {h : HS} (hw : wb_X5_size cl lm Q E x0 h) : HMet l G yX5_size (ws_ yX5_size cX5_size 1 ((Option.some Jvm.ClassFile.FieldType.int))) (d2 + 1) [.ref x0] h Q E := by
  refine gh_met (own := RX5) rfl (by decide +kernel) hst (by simp only [lg_sl_i, lg_sl_r, lg_sl_a, lg_sl_2, lg_sl_f, lg_sl_0]; decide) (fun X hXl hXn hret hnm hTb h0 eh C S0 => ?_)
  subst hXl
  have hlm := hCl.2.1
  have hd8 := hCl.2.2.1
  have hd2 : 1 ≤ d2 := Nat.le_trans (by decide) hd8
  have hLa := hCl.2.2.2
  have hd1 : 1 ≤ d2 + 1 := Nat.le_add_left _ _
  have hC9 := hCl
  replace hCl := hCl.1
  have hini : True := trivial
  unfold wb_X5_size at hw
  refine GK.sub (lv' := [(0, .ref x0)]) [0] (by simp only [lv_args_i, lv_args_r, lv_args_a, lv_args_l, lv_args_f, lv_args_0]; rfl) ?_
  refine gk_iconst (pc := 0) (v := 1) C.1 dX5_size_0 (by decide) ?_
  exact gh_iret (pc := 1) C S0 hret dX5_size_1 hw
/-! 172: GathersAllFaults$Nothing.step(I)LGathersAllFaults$Value; -/
def wb_X5_step (cl : CT) (lm : Nat × Nat) (Q : QT) (E : ET) (x0 : Nat) (x1 : Int32) (h : HS) : Prop := Q (some (va_rf none)) h
theorem wx_X5_step {l : Launch} (hst : l.stackTraces = false) {G : GG} {cl : CT} {lm : Nat × Nat} {Q : QT} {E : ET} {d2 : Nat} (hCl : CallsOK l G d2 cl ∧ hLm G lm ∧ 8 ≤ d2 ∧ LamsOK l G d2 cl) {x0 : Nat} {x1 : Int32} {h : HS} (hw : wb_X5_step cl lm Q E x0 x1 h) : HMet l G yX5_step (ws_ yX5_step cX5_step 2 ((Option.some (Jvm.ClassFile.FieldType.object "GathersAllFaults$Value")))) (d2 + 1) [.ref x0, .int x1] h Q E := by
  refine gh_met (own := RX5) rfl (by decide +kernel) hst (by simp only [lg_sl_i, lg_sl_r, lg_sl_a, lg_sl_2, lg_sl_f, lg_sl_0]; decide) (fun X hXl hXn hret hnm hTb h0 eh C S0 => ?_)
  subst hXl
  have hlm := hCl.2.1
  have hd8 := hCl.2.2.1
  have hd2 : 1 ≤ d2 := Nat.le_trans (by decide) hd8
  have hLa := hCl.2.2.2
  have hd1 : 1 ≤ d2 + 1 := Nat.le_add_left _ _
  have hC9 := hCl
  replace hCl := hCl.1
  have hini : True := trivial
  unfold wb_X5_step at hw
  refine GK.sub (lv' := [(0, .ref x0), (1, .int x1)]) [0, 1] (by simp only [lv_args_i, lv_args_r, lv_args_a, lv_args_l, lv_args_f, lv_args_0]; rfl) ?_
  refine gk_null (pc := 0) C.1 dX5_step_0 ?_
  exact gh_aret (pc := 1) (r := none) C S0 hret (Or.inl ⟨_, rfl⟩) dX5_step_1 hw
/-! 173: GathersAllFaults$Nothing.total()I -/
def wb_X5_total (cl : CT) (lm : Nat × Nat) (Q : QT) (E : ET) (x0 : Nat) (h : HS) : Prop := Q (some (.int 0)) h
theorem wx_X5_total {l : Launch} (hst : l.stackTraces = false) {G : GG} {cl : CT} {lm : Nat × Nat} {Q : QT} {E : ET} {d2 : Nat} (hCl : CallsOK l G d2 cl ∧ hLm G lm ∧ 8 ≤ d2 ∧ LamsOK l G d2 cl) {x0 : Nat} {h : HS} (hw : wb_X5_total cl lm Q E x0 h) : HMet l G yX5_total (ws_ yX5_total cX5_total 1 ((Option.some Jvm.ClassFile.FieldType.int))) (d2 + 1) [.ref x0] h Q E := by
  refine gh_met (own := RX5) rfl (by decide +kernel) hst (by simp only [lg_sl_i, lg_sl_r, lg_sl_a, lg_sl_2, lg_sl_f, lg_sl_0]; decide) (fun X hXl hXn hret hnm hTb h0 eh C S0 => ?_)
  subst hXl
  have hlm := hCl.2.1
  have hd8 := hCl.2.2.1
  have hd2 : 1 ≤ d2 := Nat.le_trans (by decide) hd8
  have hLa := hCl.2.2.2
  have hd1 : 1 ≤ d2 + 1 := Nat.le_add_left _ _
  have hC9 := hCl
  replace hCl := hCl.1
  have hini : True := trivial
  unfold wb_X5_total at hw
  refine GK.sub (lv' := [(0, .ref x0)]) [0] (by simp only [lv_args_i, lv_args_r, lv_args_a, lv_args_l, lv_args_f, lv_args_0]; rfl) ?_
  refine gk_iconst (pc := 0) (v := 0) C.1 dX5_total_0 (by decide) ?_
  exact gh_iret (pc := 1) C S0 hret dX5_total_1 hw
/-! 174: GathersAllFaults$Nothing.with(ILGathersAllFaults$Value;)LGathersAllFaults$Value; -/
def wb_X5_with (cl : CT) (lm : Nat × Nat) (Q : QT) (E : ET) (x0 : Nat) (x1 : Int32) (x2 : Option Nat) (h : HS) : Prop := Q (some (va_rf (some x0))) h
theorem wx_X5_with {l : Launch} (hst : l.stackTraces = false) {G : GG} {cl : CT} {lm : Nat × Nat} {Q : QT} {E : ET} {d2 : Nat} (hCl : CallsOK l G d2 cl ∧ hLm G lm ∧ 8 ≤ d2 ∧ LamsOK l G d2 cl) {x0 : Nat} {x1 : Int32} {x2 : Option Nat} {h : HS} (hw : wb_X5_with cl lm Q E x0 x1 x2 h) : HMet l G yX5_with (ws_ yX5_with cX5_with 3 ((Option.some (Jvm.ClassFile.FieldType.object "GathersAllFaults$Value")))) (d2 + 1) [.ref x0, .int x1, va_rf x2] h Q E := by
  refine gh_met (own := RX5) rfl (by decide +kernel) hst (by simp only [lg_sl_i, lg_sl_r, lg_sl_a, lg_sl_2, lg_sl_f, lg_sl_0]; decide) (fun X hXl hXn hret hnm hTb h0 eh C S0 => ?_)
  subst hXl
  have hlm := hCl.2.1
  have hd8 := hCl.2.2.1
  have hd2 : 1 ≤ d2 := Nat.le_trans (by decide) hd8
  have hLa := hCl.2.2.2
  have hd1 : 1 ≤ d2 + 1 := Nat.le_add_left _ _
  have hC9 := hCl
  replace hCl := hCl.1
  have hini : True := trivial
  unfold wb_X5_with at hw
  refine GK.sub (lv' := [(0, .ref x0), (1, .int x1), (2, va_rf x2)]) [0, 1, 2] (by simp only [lv_args_i, lv_args_r, lv_args_a, lv_args_l, lv_args_f, lv_args_0]; rfl) ?_
  refine gk_aload_n (pc := 0) C.1 0 dX5_with_0 rfl rfl ?_
  exact gh_aret (pc := 1) (r := (some x0)) C S0 hret (Or.inl ⟨_, rfl⟩) dX5_with_1 hw
/-! 175: GathersAllFaultsModel.<init>()V -/
def wb_X6_init (cl : CT) (lm : Nat × Nat) (Q : QT) (E : ET) (x0 : Nat) (h : HS) : Prop := ¬ (7 : Int32) < 0 ∧ ((7 : Int32).toNatClampNeg * 4 ≤ 536870912 ∧ (hZ h + 1 ≤ lm.1 ∧ (hL h + (7 : Int32).toNatClampNeg ≤ lm.2 ∧ (∀ (a_2 : Nat) (h_1 : HS), a_2 = hZ h → h_1 = hNew h 101 (7 : Int32).toNatClampNeg (7 : Int32).toNatClampNeg → ((hT h_1 x0 = 26) ∧ (∀ h_3 : HS, h_3 = sR h_1 99 x0 (some a_2) → (¬ (21 : Int32) < 0 ∧ ((21 : Int32).toNatClampNeg * 4 ≤ 536870912 ∧ (hZ h_3 + 1 ≤ lm.1 ∧ (hL h_3 + (21 : Int32).toNatClampNeg ≤ lm.2 ∧ (∀ (a_5 : Nat) (h_4 : HS), a_5 = hZ h_3 → h_4 = hNew h_3 101 (21 : Int32).toNatClampNeg (21 : Int32).toNatClampNeg → ((hT h_4 x0 = 26) ∧ (∀ h_6 : HS, h_6 = sR h_4 100 x0 (some a_5) → (¬ (21 : Int32) < 0 ∧ ((21 : Int32).toNatClampNeg * 4 ≤ 536870912 ∧ (hZ h_6 + 1 ≤ lm.1 ∧ (hL h_6 + (21 : Int32).toNatClampNeg ≤ lm.2 ∧ (∀ (a_8 : Nat) (h_7 : HS), a_8 = hZ h_6 → h_7 = hNew h_6 101 (21 : Int32).toNatClampNeg (21 : Int32).toNatClampNeg → ((hT h_7 x0 = 26) ∧ (∀ h_9 : HS, h_9 = sR h_7 101 x0 (some a_8) → (¬ (21 : Int32) < 0 ∧ ((21 : Int32).toNatClampNeg * 4 ≤ 536870912 ∧ (hZ h_9 + 1 ≤ lm.1 ∧ (hL h_9 + (21 : Int32).toNatClampNeg ≤ lm.2 ∧ (∀ (a_11 : Nat) (h_10 : HS), a_11 = hZ h_9 → h_10 = hNew h_9 101 (21 : Int32).toNatClampNeg (21 : Int32).toNatClampNeg → ((hT h_10 x0 = 26) ∧ (∀ h_12 : HS, h_12 = sR h_10 102 x0 (some a_11) → (¬ (21 : Int32) < 0 ∧ ((21 : Int32).toNatClampNeg * 4 ≤ 536870912 ∧ (hZ h_12 + 1 ≤ lm.1 ∧ (hL h_12 + (21 : Int32).toNatClampNeg ≤ lm.2 ∧ (∀ (a_14 : Nat) (h_13 : HS), a_14 = hZ h_12 → h_13 = hNew h_12 101 (21 : Int32).toNatClampNeg (21 : Int32).toNatClampNeg → ((hT h_13 x0 = 26) ∧ (∀ h_15 : HS, h_15 = sR h_13 103 x0 (some a_14) → (¬ (21 : Int32) < 0 ∧ ((21 : Int32).toNatClampNeg * 4 ≤ 536870912 ∧ (hZ h_15 + 1 ≤ lm.1 ∧ (hL h_15 + (21 : Int32).toNatClampNeg ≤ lm.2 ∧ (∀ (a_17 : Nat) (h_16 : HS), a_17 = hZ h_15 → h_16 = hNew h_15 101 (21 : Int32).toNatClampNeg (21 : Int32).toNatClampNeg → ((hT h_16 x0 = 26) ∧ (∀ h_18 : HS, h_18 = sR h_16 104 x0 (some a_17) → (¬ (25 : Int32) < 0 ∧ ((25 : Int32).toNatClampNeg * 4 ≤ 536870912 ∧ (hZ h_18 + 1 ≤ lm.1 ∧ (hL h_18 + (25 : Int32).toNatClampNeg ≤ lm.2 ∧ (∀ (a_20 : Nat) (h_19 : HS), a_20 = hZ h_18 → h_19 = hNew h_18 101 (25 : Int32).toNatClampNeg (25 : Int32).toNatClampNeg → ((hT h_19 x0 = 26) ∧ (∀ h_21 : HS, h_21 = sR h_19 106 x0 (some a_20) → (¬ (25 : Int32) < 0 ∧ ((25 : Int32).toNatClampNeg * 4 ≤ 536870912 ∧ (hZ h_21 + 1 ≤ lm.1 ∧ (hL h_21 + (25 : Int32).toNatClampNeg ≤ lm.2 ∧ (∀ (a_23 : Nat) (h_22 : HS), a_23 = hZ h_21 → h_22 = hNew h_21 101 (25 : Int32).toNatClampNeg (25 : Int32).toNatClampNeg → ((hT h_22 x0 = 26) ∧ (∀ h_24 : HS, h_24 = sR h_22 107 x0 (some a_23) → (¬ (25 : Int32) < 0 ∧ ((25 : Int32).toNatClampNeg * 4 ≤ 536870912 ∧ (hZ h_24 + 1 ≤ lm.1 ∧ (hL h_24 + (25 : Int32).toNatClampNeg ≤ lm.2 ∧ (∀ (a_26 : Nat) (h_25 : HS), a_26 = hZ h_24 → h_25 = hNew h_24 101 (25 : Int32).toNatClampNeg (25 : Int32).toNatClampNeg → ((hT h_25 x0 = 26) ∧ (∀ h_27 : HS, h_27 = sR h_25 108 x0 (some a_26) → (¬ (25 : Int32) < 0 ∧ ((25 : Int32).toNatClampNeg * 4 ≤ 536870912 ∧ (hZ h_27 + 1 ≤ lm.1 ∧ (hL h_27 + (25 : Int32).toNatClampNeg ≤ lm.2 ∧ (∀ (a_29 : Nat) (h_28 : HS), a_29 = hZ h_27 → h_28 = hNew h_27 101 (25 : Int32).toNatClampNeg (25 : Int32).toNatClampNeg → ((hT h_28 x0 = 26) ∧ (∀ h_30 : HS, h_30 = sR h_28 109 x0 (some a_29) → (¬ (25 : Int32) < 0 ∧ ((25 : Int32).toNatClampNeg * 4 ≤ 536870912 ∧ (hZ h_30 + 1 ≤ lm.1 ∧ (hL h_30 + (25 : Int32).toNatClampNeg ≤ lm.2 ∧ (∀ (a_32 : Nat) (h_31 : HS), a_32 = hZ h_30 → h_31 = hNew h_30 101 (25 : Int32).toNatClampNeg (25 : Int32).toNatClampNeg → ((hT h_31 x0 = 26) ∧ (∀ h_33 : HS, h_33 = sR h_31 110 x0 (some a_32) → (¬ (25 : Int32) < 0 ∧ ((25 : Int32).toNatClampNeg * 4 ≤ 536870912 ∧ (hZ h_33 + 1 ≤ lm.1 ∧ (hL h_33 + (25 : Int32).toNatClampNeg ≤ lm.2 ∧ (∀ (a_35 : Nat) (h_34 : HS), a_35 = hZ h_33 → h_34 = hNew h_33 101 (25 : Int32).toNatClampNeg (25 : Int32).toNatClampNeg → ((hT h_34 x0 = 26) ∧ (∀ h_36 : HS, h_36 = sR h_34 111 x0 (some a_35) → (¬ (25 : Int32) < 0 ∧ ((25 : Int32).toNatClampNeg * 4 ≤ 536870912 ∧ (hZ h_36 + 1 ≤ lm.1 ∧ (hL h_36 + (25 : Int32).toNatClampNeg ≤ lm.2 ∧ (∀ (a_38 : Nat) (h_37 : HS), a_38 = hZ h_36 → h_37 = hNew h_36 101 (25 : Int32).toNatClampNeg (25 : Int32).toNatClampNeg → ((hT h_37 x0 = 26) ∧ (∀ h_39 : HS, h_39 = sR h_37 112 x0 (some a_38) → (¬ (25 : Int32) < 0 ∧ ((25 : Int32).toNatClampNeg * 4 ≤ 536870912 ∧ (hZ h_39 + 1 ≤ lm.1 ∧ (hL h_39 + (25 : Int32).toNatClampNeg ≤ lm.2 ∧ (∀ (a_41 : Nat) (h_40 : HS), a_41 = hZ h_39 → h_40 = hNew h_39 101 (25 : Int32).toNatClampNeg (25 : Int32).toNatClampNeg → ((hT h_40 x0 = 26) ∧ (∀ h_42 : HS, h_42 = sR h_40 113 x0 (some a_41) → (¬ (25 : Int32) < 0 ∧ ((25 : Int32).toNatClampNeg * 4 ≤ 536870912 ∧ (hZ h_42 + 1 ≤ lm.1 ∧ (hL h_42 + (25 : Int32).toNatClampNeg ≤ lm.2 ∧ (∀ (a_44 : Nat) (h_43 : HS), a_44 = hZ h_42 → h_43 = hNew h_42 101 (25 : Int32).toNatClampNeg (25 : Int32).toNatClampNeg → ((hT h_43 x0 = 26) ∧ (∀ h_45 : HS, h_45 = sR h_43 114 x0 (some a_44) → (¬ (33 : Int32) < 0 ∧ ((33 : Int32).toNatClampNeg * 4 ≤ 536870912 ∧ (hZ h_45 + 1 ≤ lm.1 ∧ (hL h_45 + (33 : Int32).toNatClampNeg ≤ lm.2 ∧ (∀ (a_47 : Nat) (h_46 : HS), a_47 = hZ h_45 → h_46 = hNew h_45 101 (33 : Int32).toNatClampNeg (33 : Int32).toNatClampNeg → ((hT h_46 x0 = 26) ∧ (∀ h_48 : HS, h_48 = sR h_46 115 x0 (some a_47) → (¬ (33 : Int32) < 0 ∧ ((33 : Int32).toNatClampNeg * 4 ≤ 536870912 ∧ (hZ h_48 + 1 ≤ lm.1 ∧ (hL h_48 + (33 : Int32).toNatClampNeg ≤ lm.2 ∧ (∀ (a_50 : Nat) (h_49 : HS), a_50 = hZ h_48 → h_49 = hNew h_48 101 (33 : Int32).toNatClampNeg (33 : Int32).toNatClampNeg → ((hT h_49 x0 = 26) ∧ (∀ h_51 : HS, h_51 = sR h_49 116 x0 (some a_50) → (¬ (33 : Int32) < 0 ∧ ((33 : Int32).toNatClampNeg * 4 ≤ 536870912 ∧ (hZ h_51 + 1 ≤ lm.1 ∧ (hL h_51 + (33 : Int32).toNatClampNeg ≤ lm.2 ∧ (∀ (a_53 : Nat) (h_52 : HS), a_53 = hZ h_51 → h_52 = hNew h_51 101 (33 : Int32).toNatClampNeg (33 : Int32).toNatClampNeg → ((hT h_52 x0 = 26) ∧ (∀ h_54 : HS, h_54 = sR h_52 117 x0 (some a_53) → (¬ (33 : Int32) < 0 ∧ ((33 : Int32).toNatClampNeg * 4 ≤ 536870912 ∧ (hZ h_54 + 1 ≤ lm.1 ∧ (hL h_54 + (33 : Int32).toNatClampNeg ≤ lm.2 ∧ (∀ (a_56 : Nat) (h_55 : HS), a_56 = hZ h_54 → h_55 = hNew h_54 101 (33 : Int32).toNatClampNeg (33 : Int32).toNatClampNeg → ((hT h_55 x0 = 26) ∧ (∀ h_57 : HS, h_57 = sR h_55 118 x0 (some a_56) → (¬ (16384 : Int32) < 0 ∧ ((16384 : Int32).toNatClampNeg * 4 ≤ 536870912 ∧ (hZ h_57 + 1 ≤ lm.1 ∧ (hL h_57 + (16384 : Int32).toNatClampNeg ≤ lm.2 ∧ (∀ (a_59 : Nat) (h_58 : HS), a_59 = hZ h_57 → h_58 = hNew h_57 101 (16384 : Int32).toNatClampNeg (16384 : Int32).toNatClampNeg → ((hT h_58 x0 = 26) ∧ (∀ h_60 : HS, h_60 = sR h_58 123 x0 (some a_59) → (¬ (16384 : Int32) < 0 ∧ ((16384 : Int32).toNatClampNeg * 4 ≤ 536870912 ∧ (hZ h_60 + 1 ≤ lm.1 ∧ (hL h_60 + (16384 : Int32).toNatClampNeg ≤ lm.2 ∧ (∀ (a_62 : Nat) (h_61 : HS), a_62 = hZ h_60 → h_61 = hNew h_60 101 (16384 : Int32).toNatClampNeg (16384 : Int32).toNatClampNeg → ((hT h_61 x0 = 26) ∧ (∀ h_63 : HS, h_63 = sR h_61 124 x0 (some a_62) → (¬ (400 : Int32) < 0 ∧ ((400 : Int32).toNatClampNeg * 4 ≤ 536870912 ∧ (hZ h_63 + 1 ≤ lm.1 ∧ (hL h_63 + (400 : Int32).toNatClampNeg ≤ lm.2 ∧ (∀ (a_65 : Nat) (h_64 : HS), a_65 = hZ h_63 → h_64 = hNew h_63 101 (400 : Int32).toNatClampNeg (400 : Int32).toNatClampNeg → ((hT h_64 x0 = 26) ∧ (∀ h_66 : HS, h_66 = sR h_64 125 x0 (some a_65) → (¬ (400 : Int32) < 0 ∧ ((400 : Int32).toNatClampNeg * 4 ≤ 536870912 ∧ (hZ h_66 + 1 ≤ lm.1 ∧ (hL h_66 + (400 : Int32).toNatClampNeg ≤ lm.2 ∧ (∀ (a_68 : Nat) (h_67 : HS), a_68 = hZ h_66 → h_67 = hNew h_66 101 (400 : Int32).toNatClampNeg (400 : Int32).toNatClampNeg → ((hT h_67 x0 = 26) ∧ (∀ h_69 : HS, h_69 = sR h_67 126 x0 (some a_68) → (¬ (400 : Int32) < 0 ∧ ((400 : Int32).toNatClampNeg * 4 ≤ 536870912 ∧ (hZ h_69 + 1 ≤ lm.1 ∧ (hL h_69 + (400 : Int32).toNatClampNeg ≤ lm.2 ∧ (∀ (a_71 : Nat) (h_70 : HS), a_71 = hZ h_69 → h_70 = hNew h_69 101 (400 : Int32).toNatClampNeg (400 : Int32).toNatClampNeg → ((hT h_70 x0 = 26) ∧ (∀ h_72 : HS, h_72 = sR h_70 127 x0 (some a_71) → (¬ (400 : Int32) < 0 ∧ ((400 : Int32).toNatClampNeg * 4 ≤ 536870912 ∧ (hZ h_72 + 1 ≤ lm.1 ∧ (hL h_72 + (400 : Int32).toNatClampNeg ≤ lm.2 ∧ (∀ (a_74 : Nat) (h_73 : HS), a_74 = hZ h_72 → h_73 = hNew h_72 101 (400 : Int32).toNatClampNeg (400 : Int32).toNatClampNeg → ((hT h_73 x0 = 26) ∧ (∀ h_75 : HS, h_75 = sR h_73 128 x0 (some a_74) → (¬ (400 : Int32) < 0 ∧ ((400 : Int32).toNatClampNeg * 4 ≤ 536870912 ∧ (hZ h_75 + 1 ≤ lm.1 ∧ (hL h_75 + (400 : Int32).toNatClampNeg ≤ lm.2 ∧ (∀ (a_77 : Nat) (h_76 : HS), a_77 = hZ h_75 → h_76 = hNew h_75 101 (400 : Int32).toNatClampNeg (400 : Int32).toNatClampNeg → ((hT h_76 x0 = 26) ∧ (∀ h_78 : HS, h_78 = sR h_76 129 x0 (some a_77) → (¬ (400 : Int32) < 0 ∧ ((400 : Int32).toNatClampNeg * 4 ≤ 536870912 ∧ (hZ h_78 + 1 ≤ lm.1 ∧ (hL h_78 + (400 : Int32).toNatClampNeg ≤ lm.2 ∧ (∀ (a_80 : Nat) (h_79 : HS), a_80 = hZ h_78 → h_79 = hNew h_78 101 (400 : Int32).toNatClampNeg (400 : Int32).toNatClampNeg → ((hT h_79 x0 = 26) ∧ (∀ h_81 : HS, h_81 = sR h_79 130 x0 (some a_80) → (¬ (400 : Int32) < 0 ∧ ((400 : Int32).toNatClampNeg * 4 ≤ 536870912 ∧ (hZ h_81 + 1 ≤ lm.1 ∧ (hL h_81 + (400 : Int32).toNatClampNeg ≤ lm.2 ∧ (∀ (a_83 : Nat) (h_82 : HS), a_83 = hZ h_81 → h_82 = hNew h_81 101 (400 : Int32).toNatClampNeg (400 : Int32).toNatClampNeg → ((hT h_82 x0 = 26) ∧ (∀ h_84 : HS, h_84 = sR h_82 131 x0 (some a_83) → (¬ (96 : Int32) < 0 ∧ ((96 : Int32).toNatClampNeg * 4 ≤ 536870912 ∧ (hZ h_84 + 1 ≤ lm.1 ∧ (hL h_84 + (96 : Int32).toNatClampNeg ≤ lm.2 ∧ (∀ (a_86 : Nat) (h_85 : HS), a_86 = hZ h_84 → h_85 = hNew h_84 101 (96 : Int32).toNatClampNeg (96 : Int32).toNatClampNeg → ((hT h_85 x0 = 26) ∧ (∀ h_87 : HS, h_87 = sR h_85 135 x0 (some a_86) → (¬ (100 : Int32) < 0 ∧ ((100 : Int32).toNatClampNeg * 4 ≤ 536870912 ∧ (hZ h_87 + 1 ≤ lm.1 ∧ (hL h_87 + (100 : Int32).toNatClampNeg ≤ lm.2 ∧ (∀ (a_89 : Nat) (h_88 : HS), a_89 = hZ h_87 → h_88 = hNew h_87 101 (100 : Int32).toNatClampNeg (100 : Int32).toNatClampNeg → ((hT h_88 x0 = 26) ∧ (∀ h_90 : HS, h_90 = sR h_88 136 x0 (some a_89) → (¬ (100 : Int32) < 0 ∧ ((100 : Int32).toNatClampNeg * 4 ≤ 536870912 ∧ (hZ h_90 + 1 ≤ lm.1 ∧ (hL h_90 + (100 : Int32).toNatClampNeg ≤ lm.2 ∧ (∀ (a_92 : Nat) (h_91 : HS), a_92 = hZ h_90 → h_91 = hNew h_90 101 (100 : Int32).toNatClampNeg (100 : Int32).toNatClampNeg → ((hT h_91 x0 = 26) ∧ (∀ h_93 : HS, h_93 = sR h_91 137 x0 (some a_92) → (¬ (100 : Int32) < 0 ∧ ((100 : Int32).toNatClampNeg * 4 ≤ 536870912 ∧ (hZ h_93 + 1 ≤ lm.1 ∧ (hL h_93 + (100 : Int32).toNatClampNeg ≤ lm.2 ∧ (∀ (a_95 : Nat) (h_94 : HS), a_95 = hZ h_93 → h_94 = hNew h_93 101 (100 : Int32).toNatClampNeg (100 : Int32).toNatClampNeg → ((hT h_94 x0 = 26) ∧ (∀ h_96 : HS, h_96 = sR h_94 138 x0 (some a_95) → (¬ (100 : Int32) < 0 ∧ ((100 : Int32).toNatClampNeg * 4 ≤ 536870912 ∧ (hZ h_96 + 1 ≤ lm.1 ∧ (hL h_96 + (100 : Int32).toNatClampNeg ≤ lm.2 ∧ (∀ (a_98 : Nat) (h_97 : HS), a_98 = hZ h_96 → h_97 = hNew h_96 101 (100 : Int32).toNatClampNeg (100 : Int32).toNatClampNeg → ((hT h_97 x0 = 26) ∧ (∀ h_99 : HS, h_99 = sR h_97 139 x0 (some a_98) → (¬ (100 : Int32) < 0 ∧ ((100 : Int32).toNatClampNeg * 4 ≤ 536870912 ∧ (hZ h_99 + 1 ≤ lm.1 ∧ (hL h_99 + (100 : Int32).toNatClampNeg ≤ lm.2 ∧ (∀ (a_101 : Nat) (h_100 : HS), a_101 = hZ h_99 → h_100 = hNew h_99 101 (100 : Int32).toNatClampNeg (100 : Int32).toNatClampNeg → ((hT h_100 x0 = 26) ∧ (∀ h_102 : HS, h_102 = sR h_100 140 x0 (some a_101) → (¬ (1400 : Int32) < 0 ∧ ((1400 : Int32).toNatClampNeg * 4 ≤ 536870912 ∧ (hZ h_102 + 1 ≤ lm.1 ∧ (hL h_102 + (1400 : Int32).toNatClampNeg ≤ lm.2 ∧ (∀ (a_104 : Nat) (h_103 : HS), a_104 = hZ h_102 → h_103 = hNew h_102 101 (1400 : Int32).toNatClampNeg (1400 : Int32).toNatClampNeg → ((hT h_103 x0 = 26) ∧ (∀ h_105 : HS, h_105 = sR h_103 146 x0 (some a_104) → (¬ (32 : Int32) < 0 ∧ ((32 : Int32).toNatClampNeg * 4 ≤ 536870912 ∧ (hZ h_105 + 1 ≤ lm.1 ∧ (hL h_105 + (32 : Int32).toNatClampNeg ≤ lm.2 ∧ (∀ (a_107 : Nat) (h_106 : HS), a_107 = hZ h_105 → h_106 = hNew h_105 101 (32 : Int32).toNatClampNeg (32 : Int32).toNatClampNeg → ((hT h_106 x0 = 26) ∧ (∀ h_108 : HS, h_108 = sR h_106 150 x0 (some a_107) → ((hT h_108 x0 = 26) ∧ (∀ h_109 : HS, h_109 = sI h_108 105 x0 1 → ((hT h_109 x0 = 26) ∧ (∀ h_110 : HS, h_110 = sI h_109 119 x0 1 → ((hT h_110 x0 = 26) ∧ (∀ r_111 : Option Nat, r_111 = hR h_110 106 x0 → (∃ a_112 : Nat, r_111 = some a_112 ∧ (hT h_110 a_112 = 101 ∧ (vp_in 0 (hN h_110 a_112) ∧ (∀ h_113 : HS, h_113 = sA h_110 a_112 (0 : Int32).toNatClampNeg 42 → (dp_GathersAllFaultsModel_measures cl x0 [] h_113 (gV (fun h_114 => Q none h_114)) E))))))))))))))))))))))))))))))))))))))))))))))))))))))))))))))))))))))))))))))))))))))))))))))))))))))))))))))))))))))))))))))))))))))))))))))))))))))))))))))))))))))))))))))))))))))))))))))))))))))))))))))))))))))))))))))))))))))))))))))))))))))))))))))))))))))
theorem wx_X6_init {l : Launch} (hst : l.stackTraces = false) {G : GG} {cl : CT} {lm : Nat × Nat} {Q : QT} {E : ET} {d2 : Nat} (hCl : CallsOK l G d2 cl ∧ hLm G lm ∧ 8 ≤ d2 ∧ LamsOK l G d2 cl) {x0 : Nat} {h : HS} (hw : wb_X6_init cl lm Q E x0 h) : HMet l G yX6_init (ws_ yX6_init cX6_init 1 ((Option.none : Option Jvm.ClassFile.FieldType))) (d2 + 1) [.ref x0] h Q E := by
  refine gh_met (own := RX6) rfl (by decide +kernel) hst (by simp only [lg_sl_i, lg_sl_r, lg_sl_a, lg_sl_2, lg_sl_f, lg_sl_0]; decide) (fun X hXl hXn hret hnm hTb h0 eh C S0 => ?_)
  subst hXl
  have hlm := hCl.2.1
  have hd8 := hCl.2.2.1
  have hd2 : 1 ≤ d2 := Nat.le_trans (by decide) hd8
  have hLa := hCl.2.2.2
  have hd1 : 1 ≤ d2 + 1 := Nat.le_add_left _ _
  have hC9 := hCl
  replace hCl := hCl.1
  have hini : (ev_h X).name = "<init>" := hnm.1
  unfold wb_X6_init at hw
  refine GK.sub (lv' := [(0, .ref x0)]) [0] (by simp only [lv_args_i, lv_args_r, lv_args_a, lv_args_l, lv_args_f, lv_args_0]; rfl) ?_
  refine gk_aload_n (pc := 0) C.1 0 dX6_init_0 rfl rfl ?_
  refine gh_obj (pc := 1) C hd1 q2108 (Nat.le_of_ble_eq_true rfl) dX6_init_1 ?_
  refine gk_aload_n (pc := 4) C.1 0 dX6_init_4 rfl rfl ?_
  refine gk_bipush (pc := 5) (v := 7) C.1 dX6_init_5 (by decide) ?_
  obtain ⟨hn0, hby, hr1, hr2, hw⟩ := hw
  refine gh_newa (pc := 7) (atype := .int) (t := 101) (t0 := 0) (ty := .int) C ⟨by decide, by decide⟩ rfl rfl (fun _ z => by cases z) rfl q261 hn0 hby (hlm.1 ▸ hr1) (hlm.2 ▸ hr2) dX6_init_7 ?_
  obtain ⟨h_1, eh_1⟩ : ∃ z : HS, z = hNew h 101 (7 : Int32).toNatClampNeg (7 : Int32).toNatClampNeg := ⟨_, rfl⟩
  rw [← eh_1]
  obtain ⟨a_2, ea_2⟩ : ∃ z : Nat, z = hZ h := ⟨_, rfl⟩
  rw [← ea_2]
  replace hw := hw a_2 h_1 ea_2 eh_1
  obtain ⟨ht, hw⟩ := hw
  refine gfp_X6_7 (pc := 9) (r := (some a_2)) C hini ht dX6_init_9 (fun h_3 eh_3 => ?_)
  replace hw := hw h_3 eh_3
  refine gk_aload_n (pc := 12) C.1 0 dX6_init_12 rfl rfl ?_
  refine gk_bipush (pc := 13) (v := 21) C.1 dX6_init_13 (by decide) ?_
  obtain ⟨hn0, hby, hr1, hr2, hw⟩ := hw
  refine gh_newa (pc := 15) (atype := .int) (t := 101) (t0 := 0) (ty := .int) C ⟨by decide, by decide⟩ rfl rfl (fun _ z => by cases z) rfl q261 hn0 hby (hlm.1 ▸ hr1) (hlm.2 ▸ hr2) dX6_init_15 ?_
  obtain ⟨h_4, eh_4⟩ : ∃ z : HS, z = hNew h_3 101 (21 : Int32).toNatClampNeg (21 : Int32).toNatClampNeg := ⟨_, rfl⟩
  rw [← eh_4]
  obtain ⟨a_5, ea_5⟩ : ∃ z : Nat, z = hZ h_3 := ⟨_, rfl⟩
  rw [← ea_5]
  replace hw := hw a_5 h_4 ea_5 eh_4
  obtain ⟨ht, hw⟩ := hw
  refine gfp_X6_13 (pc := 17) (r := (some a_5)) C hini ht dX6_init_17 (fun h_6 eh_6 => ?_)
  replace hw := hw h_6 eh_6
  refine gk_aload_n (pc := 20) C.1 0 dX6_init_20 rfl rfl ?_
  refine gk_bipush (pc := 21) (v := 21) C.1 dX6_init_21 (by decide) ?_
  obtain ⟨hn0, hby, hr1, hr2, hw⟩ := hw
  refine gh_newa (pc := 23) (atype := .int) (t := 101) (t0 := 0) (ty := .int) C ⟨by decide, by decide⟩ rfl rfl (fun _ z => by cases z) rfl q261 hn0 hby (hlm.1 ▸ hr1) (hlm.2 ▸ hr2) dX6_init_23 ?_
  obtain ⟨h_7, eh_7⟩ : ∃ z : HS, z = hNew h_6 101 (21 : Int32).toNatClampNeg (21 : Int32).toNatClampNeg := ⟨_, rfl⟩
  rw [← eh_7]
  obtain ⟨a_8, ea_8⟩ : ∃ z : Nat, z = hZ h_6 := ⟨_, rfl⟩
  rw [← ea_8]
  replace hw := hw a_8 h_7 ea_8 eh_7
  obtain ⟨ht, hw⟩ := hw
  refine gfp_X6_16 (pc := 25) (r := (some a_8)) C hini ht dX6_init_25 (fun h_9 eh_9 => ?_)
  replace hw := hw h_9 eh_9
  refine gk_aload_n (pc := 28) C.1 0 dX6_init_28 rfl rfl ?_
  refine gk_bipush (pc := 29) (v := 21) C.1 dX6_init_29 (by decide) ?_
  obtain ⟨hn0, hby, hr1, hr2, hw⟩ := hw
  refine gh_newa (pc := 31) (atype := .int) (t := 101) (t0 := 0) (ty := .int) C ⟨by decide, by decide⟩ rfl rfl (fun _ z => by cases z) rfl q261 hn0 hby (hlm.1 ▸ hr1) (hlm.2 ▸ hr2) dX6_init_31 ?_
  obtain ⟨h_10, eh_10⟩ : ∃ z : HS, z = hNew h_9 101 (21 : Int32).toNatClampNeg (21 : Int32).toNatClampNeg := ⟨_, rfl⟩
  rw [← eh_10]
  obtain ⟨a_11, ea_11⟩ : ∃ z : Nat, z = hZ h_9 := ⟨_, rfl⟩
  rw [← ea_11]
  replace hw := hw a_11 h_10 ea_11 eh_10
  obtain ⟨ht, hw⟩ := hw
  refine gfp_X6_19 (pc := 33) (r := (some a_11)) C hini ht dX6_init_33 (fun h_12 eh_12 => ?_)
  replace hw := hw h_12 eh_12
  refine gk_aload_n (pc := 36) C.1 0 dX6_init_36 rfl rfl ?_
  refine gk_bipush (pc := 37) (v := 21) C.1 dX6_init_37 (by decide) ?_
  obtain ⟨hn0, hby, hr1, hr2, hw⟩ := hw
  refine gh_newa (pc := 39) (atype := .int) (t := 101) (t0 := 0) (ty := .int) C ⟨by decide, by decide⟩ rfl rfl (fun _ z => by cases z) rfl q261 hn0 hby (hlm.1 ▸ hr1) (hlm.2 ▸ hr2) dX6_init_39 ?_
  obtain ⟨h_13, eh_13⟩ : ∃ z : HS, z = hNew h_12 101 (21 : Int32).toNatClampNeg (21 : Int32).toNatClampNeg := ⟨_, rfl⟩
  rw [← eh_13]
  obtain ⟨a_14, ea_14⟩ : ∃ z : Nat, z = hZ h_12 := ⟨_, rfl⟩
  rw [← ea_14]
  replace hw := hw a_14 h_13 ea_14 eh_13
  obtain ⟨ht, hw⟩ := hw
  refine gfp_X6_22 (pc := 41) (r := (some a_14)) C hini ht dX6_init_41 (fun h_15 eh_15 => ?_)
  replace hw := hw h_15 eh_15
  refine gk_aload_n (pc := 44) C.1 0 dX6_init_44 rfl rfl ?_
  refine gk_bipush (pc := 45) (v := 21) C.1 dX6_init_45 (by decide) ?_
  obtain ⟨hn0, hby, hr1, hr2, hw⟩ := hw
  refine gh_newa (pc := 47) (atype := .int) (t := 101) (t0 := 0) (ty := .int) C ⟨by decide, by decide⟩ rfl rfl (fun _ z => by cases z) rfl q261 hn0 hby (hlm.1 ▸ hr1) (hlm.2 ▸ hr2) dX6_init_47 ?_
  obtain ⟨h_16, eh_16⟩ : ∃ z : HS, z = hNew h_15 101 (21 : Int32).toNatClampNeg (21 : Int32).toNatClampNeg := ⟨_, rfl⟩
  rw [← eh_16]
  obtain ⟨a_17, ea_17⟩ : ∃ z : Nat, z = hZ h_15 := ⟨_, rfl⟩
  rw [← ea_17]
  replace hw := hw a_17 h_16 ea_17 eh_16
  obtain ⟨ht, hw⟩ := hw
  refine gfp_X6_25 (pc := 49) (r := (some a_17)) C hini ht dX6_init_49 (fun h_18 eh_18 => ?_)
  replace hw := hw h_18 eh_18
  refine gk_aload_n (pc := 52) C.1 0 dX6_init_52 rfl rfl ?_
  refine gk_bipush (pc := 53) (v := 25) C.1 dX6_init_53 (by decide) ?_
  obtain ⟨hn0, hby, hr1, hr2, hw⟩ := hw
  refine gh_newa (pc := 55) (atype := .int) (t := 101) (t0 := 0) (ty := .int) C ⟨by decide, by decide⟩ rfl rfl (fun _ z => by cases z) rfl q261 hn0 hby (hlm.1 ▸ hr1) (hlm.2 ▸ hr2) dX6_init_55 ?_
  obtain ⟨h_19, eh_19⟩ : ∃ z : HS, z = hNew h_18 101 (25 : Int32).toNatClampNeg (25 : Int32).toNatClampNeg := ⟨_, rfl⟩
  rw [← eh_19]
  obtain ⟨a_20, ea_20⟩ : ∃ z : Nat, z = hZ h_18 := ⟨_, rfl⟩
  rw [← ea_20]
  replace hw := hw a_20 h_19 ea_20 eh_19
  obtain ⟨ht, hw⟩ := hw
  refine gfp_X6_28 (pc := 57) (r := (some a_20)) C hini ht dX6_init_57 (fun h_21 eh_21 => ?_)
  replace hw := hw h_21 eh_21
  refine gk_aload_n (pc := 60) C.1 0 dX6_init_60 rfl rfl ?_
  refine gk_bipush (pc := 61) (v := 25) C.1 dX6_init_61 (by decide) ?_
  obtain ⟨hn0, hby, hr1, hr2, hw⟩ := hw
  refine gh_newa (pc := 63) (atype := .int) (t := 101) (t0 := 0) (ty := .int) C ⟨by decide, by decide⟩ rfl rfl (fun _ z => by cases z) rfl q261 hn0 hby (hlm.1 ▸ hr1) (hlm.2 ▸ hr2) dX6_init_63 ?_
  obtain ⟨h_22, eh_22⟩ : ∃ z : HS, z = hNew h_21 101 (25 : Int32).toNatClampNeg (25 : Int32).toNatClampNeg := ⟨_, rfl⟩
  rw [← eh_22]
  obtain ⟨a_23, ea_23⟩ : ∃ z : Nat, z = hZ h_21 := ⟨_, rfl⟩
  rw [← ea_23]
  replace hw := hw a_23 h_22 ea_23 eh_22
  obtain ⟨ht, hw⟩ := hw
  refine gfp_X6_31 (pc := 65) (r := (some a_23)) C hini ht dX6_init_65 (fun h_24 eh_24 => ?_)
  replace hw := hw h_24 eh_24
  refine gk_aload_n (pc := 68) C.1 0 dX6_init_68 rfl rfl ?_
  refine gk_bipush (pc := 69) (v := 25) C.1 dX6_init_69 (by decide) ?_
  obtain ⟨hn0, hby, hr1, hr2, hw⟩ := hw
  refine gh_newa (pc := 71) (atype := .int) (t := 101) (t0 := 0) (ty := .int) C ⟨by decide, by decide⟩ rfl rfl (fun _ z => by cases z) rfl q261 hn0 hby (hlm.1 ▸ hr1) (hlm.2 ▸ hr2) dX6_init_71 ?_
  obtain ⟨h_25, eh_25⟩ : ∃ z : HS, z = hNew h_24 101 (25 : Int32).toNatClampNeg (25 : Int32).toNatClampNeg := ⟨_, rfl⟩
  rw [← eh_25]
  obtain ⟨a_26, ea_26⟩ : ∃ z : Nat, z = hZ h_24 := ⟨_, rfl⟩
  rw [← ea_26]
  replace hw := hw a_26 h_25 ea_26 eh_25
  obtain ⟨ht, hw⟩ := hw
  refine gfp_X6_34 (pc := 73) (r := (some a_26)) C hini ht dX6_init_73 (fun h_27 eh_27 => ?_)
  replace hw := hw h_27 eh_27
  refine gk_aload_n (pc := 76) C.1 0 dX6_init_76 rfl rfl ?_
  refine gk_bipush (pc := 77) (v := 25) C.1 dX6_init_77 (by decide) ?_
  obtain ⟨hn0, hby, hr1, hr2, hw⟩ := hw
  refine gh_newa (pc := 79) (atype := .int) (t := 101) (t0 := 0) (ty := .int) C ⟨by decide, by decide⟩ rfl rfl (fun _ z => by cases z) rfl q261 hn0 hby (hlm.1 ▸ hr1) (hlm.2 ▸ hr2) dX6_init_79 ?_
  obtain ⟨h_28, eh_28⟩ : ∃ z : HS, z = hNew h_27 101 (25 : Int32).toNatClampNeg (25 : Int32).toNatClampNeg := ⟨_, rfl⟩
  rw [← eh_28]
  obtain ⟨a_29, ea_29⟩ : ∃ z : Nat, z = hZ h_27 := ⟨_, rfl⟩
  rw [← ea_29]
  replace hw := hw a_29 h_28 ea_29 eh_28
  obtain ⟨ht, hw⟩ := hw
  refine gfp_X6_37 (pc := 81) (r := (some a_29)) C hini ht dX6_init_81 (fun h_30 eh_30 => ?_)
  replace hw := hw h_30 eh_30
  refine gk_aload_n (pc := 84) C.1 0 dX6_init_84 rfl rfl ?_
  refine gk_bipush (pc := 85) (v := 25) C.1 dX6_init_85 (by decide) ?_
  obtain ⟨hn0, hby, hr1, hr2, hw⟩ := hw
  refine gh_newa (pc := 87) (atype := .int) (t := 101) (t0 := 0) (ty := .int) C ⟨by decide, by decide⟩ rfl rfl (fun _ z => by cases z) rfl q261 hn0 hby (hlm.1 ▸ hr1) (hlm.2 ▸ hr2) dX6_init_87 ?_
  obtain ⟨h_31, eh_31⟩ : ∃ z : HS, z = hNew h_30 101 (25 : Int32).toNatClampNeg (25 : Int32).toNatClampNeg := ⟨_, rfl⟩
  rw [← eh_31]
  obtain ⟨a_32, ea_32⟩ : ∃ z : Nat, z = hZ h_30 := ⟨_, rfl⟩
  rw [← ea_32]
  replace hw := hw a_32 h_31 ea_32 eh_31
  obtain ⟨ht, hw⟩ := hw
  refine gfp_X6_40 (pc := 89) (r := (some a_32)) C hini ht dX6_init_89 (fun h_33 eh_33 => ?_)
  replace hw := hw h_33 eh_33
  refine gk_aload_n (pc := 92) C.1 0 dX6_init_92 rfl rfl ?_
  refine gk_bipush (pc := 93) (v := 25) C.1 dX6_init_93 (by decide) ?_
  obtain ⟨hn0, hby, hr1, hr2, hw⟩ := hw
  refine gh_newa (pc := 95) (atype := .int) (t := 101) (t0 := 0) (ty := .int) C ⟨by decide, by decide⟩ rfl rfl (fun _ z => by cases z) rfl q261 hn0 hby (hlm.1 ▸ hr1) (hlm.2 ▸ hr2) dX6_init_95 ?_
  obtain ⟨h_34, eh_34⟩ : ∃ z : HS, z = hNew h_33 101 (25 : Int32).toNatClampNeg (25 : Int32).toNatClampNeg := ⟨_, rfl⟩
  rw [← eh_34]
  obtain ⟨a_35, ea_35⟩ : ∃ z : Nat, z = hZ h_33 := ⟨_, rfl⟩
  rw [← ea_35]
  replace hw := hw a_35 h_34 ea_35 eh_34
  obtain ⟨ht, hw⟩ := hw
  refine gfp_X6_43 (pc := 97) (r := (some a_35)) C hini ht dX6_init_97 (fun h_36 eh_36 => ?_)
  replace hw := hw h_36 eh_36
  refine gk_aload_n (pc := 100) C.1 0 dX6_init_100 rfl rfl ?_
  refine gk_bipush (pc := 101) (v := 25) C.1 dX6_init_101 (by decide) ?_
  obtain ⟨hn0, hby, hr1, hr2, hw⟩ := hw
  refine gh_newa (pc := 103) (atype := .int) (t := 101) (t0 := 0) (ty := .int) C ⟨by decide, by decide⟩ rfl rfl (fun _ z => by cases z) rfl q261 hn0 hby (hlm.1 ▸ hr1) (hlm.2 ▸ hr2) dX6_init_103 ?_
  obtain ⟨h_37, eh_37⟩ : ∃ z : HS, z = hNew h_36 101 (25 : Int32).toNatClampNeg (25 : Int32).toNatClampNeg := ⟨_, rfl⟩
  rw [← eh_37]
  obtain ⟨a_38, ea_38⟩ : ∃ z : Nat, z = hZ h_36 := ⟨_, rfl⟩
  rw [← ea_38]
  replace hw := hw a_38 h_37 ea_38 eh_37
  obtain ⟨ht, hw⟩ := hw
  refine gfp_X6_46 (pc := 105) (r := (some a_38)) C hini ht dX6_init_105 (fun h_39 eh_39 => ?_)
  replace hw := hw h_39 eh_39
  refine gk_aload_n (pc := 108) C.1 0 dX6_init_108 rfl rfl ?_
  refine gk_bipush (pc := 109) (v := 25) C.1 dX6_init_109 (by decide) ?_
  obtain ⟨hn0, hby, hr1, hr2, hw⟩ := hw
  refine gh_newa (pc := 111) (atype := .int) (t := 101) (t0 := 0) (ty := .int) C ⟨by decide, by decide⟩ rfl rfl (fun _ z => by cases z) rfl q261 hn0 hby (hlm.1 ▸ hr1) (hlm.2 ▸ hr2) dX6_init_111 ?_
  obtain ⟨h_40, eh_40⟩ : ∃ z : HS, z = hNew h_39 101 (25 : Int32).toNatClampNeg (25 : Int32).toNatClampNeg := ⟨_, rfl⟩
  rw [← eh_40]
  obtain ⟨a_41, ea_41⟩ : ∃ z : Nat, z = hZ h_39 := ⟨_, rfl⟩
  rw [← ea_41]
  replace hw := hw a_41 h_40 ea_41 eh_40
  obtain ⟨ht, hw⟩ := hw
  refine gfp_X6_49 (pc := 113) (r := (some a_41)) C hini ht dX6_init_113 (fun h_42 eh_42 => ?_)
  replace hw := hw h_42 eh_42
  refine gk_aload_n (pc := 116) C.1 0 dX6_init_116 rfl rfl ?_
  refine gk_bipush (pc := 117) (v := 25) C.1 dX6_init_117 (by decide) ?_
  obtain ⟨hn0, hby, hr1, hr2, hw⟩ := hw
  refine gh_newa (pc := 119) (atype := .int) (t := 101) (t0 := 0) (ty := .int) C ⟨by decide, by decide⟩ rfl rfl (fun _ z => by cases z) rfl q261 hn0 hby (hlm.1 ▸ hr1) (hlm.2 ▸ hr2) dX6_init_119 ?_
  obtain ⟨h_43, eh_43⟩ : ∃ z : HS, z = hNew h_42 101 (25 : Int32).toNatClampNeg (25 : Int32).toNatClampNeg := ⟨_, rfl⟩
  rw [← eh_43]
  obtain ⟨a_44, ea_44⟩ : ∃ z : Nat, z = hZ h_42 := ⟨_, rfl⟩
  rw [← ea_44]
  replace hw := hw a_44 h_43 ea_44 eh_43
  obtain ⟨ht, hw⟩ := hw
  refine gfp_X6_52 (pc := 121) (r := (some a_44)) C hini ht dX6_init_121 (fun h_45 eh_45 => ?_)
  replace hw := hw h_45 eh_45
  refine gk_aload_n (pc := 124) C.1 0 dX6_init_124 rfl rfl ?_
  refine gk_bipush (pc := 125) (v := 33) C.1 dX6_init_125 (by decide) ?_
  obtain ⟨hn0, hby, hr1, hr2, hw⟩ := hw
  refine gh_newa (pc := 127) (atype := .int) (t := 101) (t0 := 0) (ty := .int) C ⟨by decide, by decide⟩ rfl rfl (fun _ z => by cases z) rfl q261 hn0 hby (hlm.1 ▸ hr1) (hlm.2 ▸ hr2) dX6_init_127 ?_
  obtain ⟨h_46, eh_46⟩ : ∃ z : HS, z = hNew h_45 101 (33 : Int32).toNatClampNeg (33 : Int32).toNatClampNeg := ⟨_, rfl⟩
  rw [← eh_46]
  obtain ⟨a_47, ea_47⟩ : ∃ z : Nat, z = hZ h_45 := ⟨_, rfl⟩
  rw [← ea_47]
  replace hw := hw a_47 h_46 ea_47 eh_46
  obtain ⟨ht, hw⟩ := hw
  refine gfp_X6_55 (pc := 129) (r := (some a_47)) C hini ht dX6_init_129 (fun h_48 eh_48 => ?_)
  replace hw := hw h_48 eh_48
  refine gk_aload_n (pc := 132) C.1 0 dX6_init_132 rfl rfl ?_
  refine gk_bipush (pc := 133) (v := 33) C.1 dX6_init_133 (by decide) ?_
  obtain ⟨hn0, hby, hr1, hr2, hw⟩ := hw
  refine gh_newa (pc := 135) (atype := .int) (t := 101) (t0 := 0) (ty := .int) C ⟨by decide, by decide⟩ rfl rfl (fun _ z => by cases z) rfl q261 hn0 hby (hlm.1 ▸ hr1) (hlm.2 ▸ hr2) dX6_init_135 ?_
  obtain ⟨h_49, eh_49⟩ : ∃ z : HS, z = hNew h_48 101 (33 : Int32).toNatClampNeg (33 : Int32).toNatClampNeg := ⟨_, rfl⟩
  rw [← eh_49]
  obtain ⟨a_50, ea_50⟩ : ∃ z : Nat, z = hZ h_48 := ⟨_, rfl⟩
  rw [← ea_50]
  replace hw := hw a_50 h_49 ea_50 eh_49
  obtain ⟨ht, hw⟩ := hw
  refine gfp_X6_58 (pc := 137) (r := (some a_50)) C hini ht dX6_init_137 (fun h_51 eh_51 => ?_)
  replace hw := hw h_51 eh_51
  refine gk_aload_n (pc := 140) C.1 0 dX6_init_140 rfl rfl ?_
  refine gk_bipush (pc := 141) (v := 33) C.1 dX6_init_141 (by decide) ?_
  obtain ⟨hn0, hby, hr1, hr2, hw⟩ := hw
  refine gh_newa (pc := 143) (atype := .int) (t := 101) (t0 := 0) (ty := .int) C ⟨by decide, by decide⟩ rfl rfl (fun _ z => by cases z) rfl q261 hn0 hby (hlm.1 ▸ hr1) (hlm.2 ▸ hr2) dX6_init_143 ?_
  obtain ⟨h_52, eh_52⟩ : ∃ z : HS, z = hNew h_51 101 (33 : Int32).toNatClampNeg (33 : Int32).toNatClampNeg := ⟨_, rfl⟩
  rw [← eh_52]
  obtain ⟨a_53, ea_53⟩ : ∃ z : Nat, z = hZ h_51 := ⟨_, rfl⟩
  rw [← ea_53]
  replace hw := hw a_53 h_52 ea_53 eh_52
  obtain ⟨ht, hw⟩ := hw
  refine gfp_X6_61 (pc := 145) (r := (some a_53)) C hini ht dX6_init_145 (fun h_54 eh_54 => ?_)
  replace hw := hw h_54 eh_54
  refine gk_aload_n (pc := 148) C.1 0 dX6_init_148 rfl rfl ?_
  refine gk_bipush (pc := 149) (v := 33) C.1 dX6_init_149 (by decide) ?_
  obtain ⟨hn0, hby, hr1, hr2, hw⟩ := hw
  refine gh_newa (pc := 151) (atype := .int) (t := 101) (t0 := 0) (ty := .int) C ⟨by decide, by decide⟩ rfl rfl (fun _ z => by cases z) rfl q261 hn0 hby (hlm.1 ▸ hr1) (hlm.2 ▸ hr2) dX6_init_151 ?_
  obtain ⟨h_55, eh_55⟩ : ∃ z : HS, z = hNew h_54 101 (33 : Int32).toNatClampNeg (33 : Int32).toNatClampNeg := ⟨_, rfl⟩
  rw [← eh_55]
  obtain ⟨a_56, ea_56⟩ : ∃ z : Nat, z = hZ h_54 := ⟨_, rfl⟩
  rw [← ea_56]
  replace hw := hw a_56 h_55 ea_56 eh_55
  obtain ⟨ht, hw⟩ := hw
  refine gfp_X6_64 (pc := 153) (r := (some a_56)) C hini ht dX6_init_153 (fun h_57 eh_57 => ?_)
  replace hw := hw h_57 eh_57
  refine gk_aload_n (pc := 156) C.1 0 dX6_init_156 rfl rfl ?_
  refine gk_sipush (pc := 157) (v := 16384) C.1 dX6_init_157 (by decide) ?_
  obtain ⟨hn0, hby, hr1, hr2, hw⟩ := hw
  refine gh_newa (pc := 160) (atype := .int) (t := 101) (t0 := 0) (ty := .int) C ⟨by decide, by decide⟩ rfl rfl (fun _ z => by cases z) rfl q261 hn0 hby (hlm.1 ▸ hr1) (hlm.2 ▸ hr2) dX6_init_160 ?_
  obtain ⟨h_58, eh_58⟩ : ∃ z : HS, z = hNew h_57 101 (16384 : Int32).toNatClampNeg (16384 : Int32).toNatClampNeg := ⟨_, rfl⟩
  rw [← eh_58]
  obtain ⟨a_59, ea_59⟩ : ∃ z : Nat, z = hZ h_57 := ⟨_, rfl⟩
  rw [← ea_59]
  replace hw := hw a_59 h_58 ea_59 eh_58
  obtain ⟨ht, hw⟩ := hw
  refine gfp_X6_67 (pc := 162) (r := (some a_59)) C hini ht dX6_init_162 (fun h_60 eh_60 => ?_)
  replace hw := hw h_60 eh_60
  refine gk_aload_n (pc := 165) C.1 0 dX6_init_165 rfl rfl ?_
  refine gk_sipush (pc := 166) (v := 16384) C.1 dX6_init_166 (by decide) ?_
  obtain ⟨hn0, hby, hr1, hr2, hw⟩ := hw
  refine gh_newa (pc := 169) (atype := .int) (t := 101) (t0 := 0) (ty := .int) C ⟨by decide, by decide⟩ rfl rfl (fun _ z => by cases z) rfl q261 hn0 hby (hlm.1 ▸ hr1) (hlm.2 ▸ hr2) dX6_init_169 ?_
  obtain ⟨h_61, eh_61⟩ : ∃ z : HS, z = hNew h_60 101 (16384 : Int32).toNatClampNeg (16384 : Int32).toNatClampNeg := ⟨_, rfl⟩
  rw [← eh_61]
  obtain ⟨a_62, ea_62⟩ : ∃ z : Nat, z = hZ h_60 := ⟨_, rfl⟩
  rw [← ea_62]
  replace hw := hw a_62 h_61 ea_62 eh_61
  obtain ⟨ht, hw⟩ := hw
  refine gfp_X6_70 (pc := 171) (r := (some a_62)) C hini ht dX6_init_171 (fun h_63 eh_63 => ?_)
  replace hw := hw h_63 eh_63
  refine gk_aload_n (pc := 174) C.1 0 dX6_init_174 rfl rfl ?_
  refine gk_sipush (pc := 175) (v := 400) C.1 dX6_init_175 (by decide) ?_
  obtain ⟨hn0, hby, hr1, hr2, hw⟩ := hw
  refine gh_newa (pc := 178) (atype := .int) (t := 101) (t0 := 0) (ty := .int) C ⟨by decide, by decide⟩ rfl rfl (fun _ z => by cases z) rfl q261 hn0 hby (hlm.1 ▸ hr1) (hlm.2 ▸ hr2) dX6_init_178 ?_
  obtain ⟨h_64, eh_64⟩ : ∃ z : HS, z = hNew h_63 101 (400 : Int32).toNatClampNeg (400 : Int32).toNatClampNeg := ⟨_, rfl⟩
  rw [← eh_64]
  obtain ⟨a_65, ea_65⟩ : ∃ z : Nat, z = hZ h_63 := ⟨_, rfl⟩
  rw [← ea_65]
  replace hw := hw a_65 h_64 ea_65 eh_64
  obtain ⟨ht, hw⟩ := hw
  refine gfp_X6_73 (pc := 180) (r := (some a_65)) C hini ht dX6_init_180 (fun h_66 eh_66 => ?_)
  replace hw := hw h_66 eh_66
  refine gk_aload_n (pc := 183) C.1 0 dX6_init_183 rfl rfl ?_
  refine gk_sipush (pc := 184) (v := 400) C.1 dX6_init_184 (by decide) ?_
  obtain ⟨hn0, hby, hr1, hr2, hw⟩ := hw
  refine gh_newa (pc := 187) (atype := .int) (t := 101) (t0 := 0) (ty := .int) C ⟨by decide, by decide⟩ rfl rfl (fun _ z => by cases z) rfl q261 hn0 hby (hlm.1 ▸ hr1) (hlm.2 ▸ hr2) dX6_init_187 ?_
  obtain ⟨h_67, eh_67⟩ : ∃ z : HS, z = hNew h_66 101 (400 : Int32).toNatClampNeg (400 : Int32).toNatClampNeg := ⟨_, rfl⟩
  rw [← eh_67]
  obtain ⟨a_68, ea_68⟩ : ∃ z : Nat, z = hZ h_66 := ⟨_, rfl⟩
  rw [← ea_68]
  replace hw := hw a_68 h_67 ea_68 eh_67
  obtain ⟨ht, hw⟩ := hw
  refine gfp_X6_76 (pc := 189) (r := (some a_68)) C hini ht dX6_init_189 (fun h_69 eh_69 => ?_)
  replace hw := hw h_69 eh_69
  refine gk_aload_n (pc := 192) C.1 0 dX6_init_192 rfl rfl ?_
  refine gk_sipush (pc := 193) (v := 400) C.1 dX6_init_193 (by decide) ?_
  obtain ⟨hn0, hby, hr1, hr2, hw⟩ := hw
  refine gh_newa (pc := 196) (atype := .int) (t := 101) (t0 := 0) (ty := .int) C ⟨by decide, by decide⟩ rfl rfl (fun _ z => by cases z) rfl q261 hn0 hby (hlm.1 ▸ hr1) (hlm.2 ▸ hr2) dX6_init_196 ?_
  obtain ⟨h_70, eh_70⟩ : ∃ z : HS, z = hNew h_69 101 (400 : Int32).toNatClampNeg (400 : Int32).toNatClampNeg := ⟨_, rfl⟩
  rw [← eh_70]
  obtain ⟨a_71, ea_71⟩ : ∃ z : Nat, z = hZ h_69 := ⟨_, rfl⟩
  rw [← ea_71]
  replace hw := hw a_71 h_70 ea_71 eh_70
  obtain ⟨ht, hw⟩ := hw
  refine gfp_X6_79 (pc := 198) (r := (some a_71)) C hini ht dX6_init_198 (fun h_72 eh_72 => ?_)
  replace hw := hw h_72 eh_72
  refine gk_aload_n (pc := 201) C.1 0 dX6_init_201 rfl rfl ?_
  refine gk_sipush (pc := 202) (v := 400) C.1 dX6_init_202 (by decide) ?_
  obtain ⟨hn0, hby, hr1, hr2, hw⟩ := hw
  refine gh_newa (pc := 205) (atype := .int) (t := 101) (t0 := 0) (ty := .int) C ⟨by decide, by decide⟩ rfl rfl (fun _ z => by cases z) rfl q261 hn0 hby (hlm.1 ▸ hr1) (hlm.2 ▸ hr2) dX6_init_205 ?_
  obtain ⟨h_73, eh_73⟩ : ∃ z : HS, z = hNew h_72 101 (400 : Int32).toNatClampNeg (400 : Int32).toNatClampNeg := ⟨_, rfl⟩
  rw [← eh_73]
  obtain ⟨a_74, ea_74⟩ : ∃ z : Nat, z = hZ h_72 := ⟨_, rfl⟩
  rw [← ea_74]
  replace hw := hw a_74 h_73 ea_74 eh_73
  obtain ⟨ht, hw⟩ := hw
  refine gfp_X6_82 (pc := 207) (r := (some a_74)) C hini ht dX6_init_207 (fun h_75 eh_75 => ?_)
  replace hw := hw h_75 eh_75
  refine gk_aload_n (pc := 210) C.1 0 dX6_init_210 rfl rfl ?_
  refine gk_sipush (pc := 211) (v := 400) C.1 dX6_init_211 (by decide) ?_
  obtain ⟨hn0, hby, hr1, hr2, hw⟩ := hw
  refine gh_newa (pc := 214) (atype := .int) (t := 101) (t0 := 0) (ty := .int) C ⟨by decide, by decide⟩ rfl rfl (fun _ z => by cases z) rfl q261 hn0 hby (hlm.1 ▸ hr1) (hlm.2 ▸ hr2) dX6_init_214 ?_
  obtain ⟨h_76, eh_76⟩ : ∃ z : HS, z = hNew h_75 101 (400 : Int32).toNatClampNeg (400 : Int32).toNatClampNeg := ⟨_, rfl⟩
  rw [← eh_76]
  obtain ⟨a_77, ea_77⟩ : ∃ z : Nat, z = hZ h_75 := ⟨_, rfl⟩
  rw [← ea_77]
  replace hw := hw a_77 h_76 ea_77 eh_76
  obtain ⟨ht, hw⟩ := hw
  refine gfp_X6_85 (pc := 216) (r := (some a_77)) C hini ht dX6_init_216 (fun h_78 eh_78 => ?_)
  replace hw := hw h_78 eh_78
  refine gk_aload_n (pc := 219) C.1 0 dX6_init_219 rfl rfl ?_
  refine gk_sipush (pc := 220) (v := 400) C.1 dX6_init_220 (by decide) ?_
  obtain ⟨hn0, hby, hr1, hr2, hw⟩ := hw
  refine gh_newa (pc := 223) (atype := .int) (t := 101) (t0 := 0) (ty := .int) C ⟨by decide, by decide⟩ rfl rfl (fun _ z => by cases z) rfl q261 hn0 hby (hlm.1 ▸ hr1) (hlm.2 ▸ hr2) dX6_init_223 ?_
  obtain ⟨h_79, eh_79⟩ : ∃ z : HS, z = hNew h_78 101 (400 : Int32).toNatClampNeg (400 : Int32).toNatClampNeg := ⟨_, rfl⟩
  rw [← eh_79]
  obtain ⟨a_80, ea_80⟩ : ∃ z : Nat, z = hZ h_78 := ⟨_, rfl⟩
  rw [← ea_80]
  replace hw := hw a_80 h_79 ea_80 eh_79
  obtain ⟨ht, hw⟩ := hw
  refine gfp_X6_88 (pc := 225) (r := (some a_80)) C hini ht dX6_init_225 (fun h_81 eh_81 => ?_)
  replace hw := hw h_81 eh_81
  refine gk_aload_n (pc := 228) C.1 0 dX6_init_228 rfl rfl ?_
  refine gk_sipush (pc := 229) (v := 400) C.1 dX6_init_229 (by decide) ?_
  obtain ⟨hn0, hby, hr1, hr2, hw⟩ := hw
  refine gh_newa (pc := 232) (atype := .int) (t := 101) (t0 := 0) (ty := .int) C ⟨by decide, by decide⟩ rfl rfl (fun _ z => by cases z) rfl q261 hn0 hby (hlm.1 ▸ hr1) (hlm.2 ▸ hr2) dX6_init_232 ?_
  obtain ⟨h_82, eh_82⟩ : ∃ z : HS, z = hNew h_81 101 (400 : Int32).toNatClampNeg (400 : Int32).toNatClampNeg := ⟨_, rfl⟩
  rw [← eh_82]
  obtain ⟨a_83, ea_83⟩ : ∃ z : Nat, z = hZ h_81 := ⟨_, rfl⟩
  rw [← ea_83]
  replace hw := hw a_83 h_82 ea_83 eh_82
  obtain ⟨ht, hw⟩ := hw
  refine gfp_X6_91 (pc := 234) (r := (some a_83)) C hini ht dX6_init_234 (fun h_84 eh_84 => ?_)
  replace hw := hw h_84 eh_84
  refine gk_aload_n (pc := 237) C.1 0 dX6_init_237 rfl rfl ?_
  refine gk_bipush (pc := 238) (v := 96) C.1 dX6_init_238 (by decide) ?_
  obtain ⟨hn0, hby, hr1, hr2, hw⟩ := hw
  refine gh_newa (pc := 240) (atype := .int) (t := 101) (t0 := 0) (ty := .int) C ⟨by decide, by decide⟩ rfl rfl (fun _ z => by cases z) rfl q261 hn0 hby (hlm.1 ▸ hr1) (hlm.2 ▸ hr2) dX6_init_240 ?_
  obtain ⟨h_85, eh_85⟩ : ∃ z : HS, z = hNew h_84 101 (96 : Int32).toNatClampNeg (96 : Int32).toNatClampNeg := ⟨_, rfl⟩
  rw [← eh_85]
  obtain ⟨a_86, ea_86⟩ : ∃ z : Nat, z = hZ h_84 := ⟨_, rfl⟩
  rw [← ea_86]
  replace hw := hw a_86 h_85 ea_86 eh_85
  obtain ⟨ht, hw⟩ := hw
  refine gfp_X6_94 (pc := 242) (r := (some a_86)) C hini ht dX6_init_242 (fun h_87 eh_87 => ?_)
  replace hw := hw h_87 eh_87
  refine gk_aload_n (pc := 245) C.1 0 dX6_init_245 rfl rfl ?_
  refine gk_bipush (pc := 246) (v := 100) C.1 dX6_init_246 (by decide) ?_
  obtain ⟨hn0, hby, hr1, hr2, hw⟩ := hw
  refine gh_newa (pc := 248) (atype := .int) (t := 101) (t0 := 0) (ty := .int) C ⟨by decide, by decide⟩ rfl rfl (fun _ z => by cases z) rfl q261 hn0 hby (hlm.1 ▸ hr1) (hlm.2 ▸ hr2) dX6_init_248 ?_
  obtain ⟨h_88, eh_88⟩ : ∃ z : HS, z = hNew h_87 101 (100 : Int32).toNatClampNeg (100 : Int32).toNatClampNeg := ⟨_, rfl⟩
  rw [← eh_88]
  obtain ⟨a_89, ea_89⟩ : ∃ z : Nat, z = hZ h_87 := ⟨_, rfl⟩
  rw [← ea_89]
  replace hw := hw a_89 h_88 ea_89 eh_88
  obtain ⟨ht, hw⟩ := hw
  refine gfp_X6_97 (pc := 250) (r := (some a_89)) C hini ht dX6_init_250 (fun h_90 eh_90 => ?_)
  replace hw := hw h_90 eh_90
  refine gk_aload_n (pc := 253) C.1 0 dX6_init_253 rfl rfl ?_
  refine gk_bipush (pc := 254) (v := 100) C.1 dX6_init_254 (by decide) ?_
  obtain ⟨hn0, hby, hr1, hr2, hw⟩ := hw
  refine gh_newa (pc := 256) (atype := .int) (t := 101) (t0 := 0) (ty := .int) C ⟨by decide, by decide⟩ rfl rfl (fun _ z => by cases z) rfl q261 hn0 hby (hlm.1 ▸ hr1) (hlm.2 ▸ hr2) dX6_init_256 ?_
  obtain ⟨h_91, eh_91⟩ : ∃ z : HS, z = hNew h_90 101 (100 : Int32).toNatClampNeg (100 : Int32).toNatClampNeg := ⟨_, rfl⟩
  rw [← eh_91]
  obtain ⟨a_92, ea_92⟩ : ∃ z : Nat, z = hZ h_90 := ⟨_, rfl⟩
  rw [← ea_92]
  replace hw := hw a_92 h_91 ea_92 eh_91
  obtain ⟨ht, hw⟩ := hw
  refine gfp_X6_100 (pc := 258) (r := (some a_92)) C hini ht dX6_init_258 (fun h_93 eh_93 => ?_)
  replace hw := hw h_93 eh_93
  refine gk_aload_n (pc := 261) C.1 0 dX6_init_261 rfl rfl ?_
  refine gk_bipush (pc := 262) (v := 100) C.1 dX6_init_262 (by decide) ?_
  obtain ⟨hn0, hby, hr1, hr2, hw⟩ := hw
  refine gh_newa (pc := 264) (atype := .int) (t := 101) (t0 := 0) (ty := .int) C ⟨by decide, by decide⟩ rfl rfl (fun _ z => by cases z) rfl q261 hn0 hby (hlm.1 ▸ hr1) (hlm.2 ▸ hr2) dX6_init_264 ?_
  obtain ⟨h_94, eh_94⟩ : ∃ z : HS, z = hNew h_93 101 (100 : Int32).toNatClampNeg (100 : Int32).toNatClampNeg := ⟨_, rfl⟩
  rw [← eh_94]
  obtain ⟨a_95, ea_95⟩ : ∃ z : Nat, z = hZ h_93 := ⟨_, rfl⟩
  rw [← ea_95]
  replace hw := hw a_95 h_94 ea_95 eh_94
  obtain ⟨ht, hw⟩ := hw
  refine gfp_X6_103 (pc := 266) (r := (some a_95)) C hini ht dX6_init_266 (fun h_96 eh_96 => ?_)
  replace hw := hw h_96 eh_96
  refine gk_aload_n (pc := 269) C.1 0 dX6_init_269 rfl rfl ?_
  refine gk_bipush (pc := 270) (v := 100) C.1 dX6_init_270 (by decide) ?_
  obtain ⟨hn0, hby, hr1, hr2, hw⟩ := hw
  refine gh_newa (pc := 272) (atype := .int) (t := 101) (t0 := 0) (ty := .int) C ⟨by decide, by decide⟩ rfl rfl (fun _ z => by cases z) rfl q261 hn0 hby (hlm.1 ▸ hr1) (hlm.2 ▸ hr2) dX6_init_272 ?_
  obtain ⟨h_97, eh_97⟩ : ∃ z : HS, z = hNew h_96 101 (100 : Int32).toNatClampNeg (100 : Int32).toNatClampNeg := ⟨_, rfl⟩
  rw [← eh_97]
  obtain ⟨a_98, ea_98⟩ : ∃ z : Nat, z = hZ h_96 := ⟨_, rfl⟩
  rw [← ea_98]
  replace hw := hw a_98 h_97 ea_98 eh_97
  obtain ⟨ht, hw⟩ := hw
  refine gfp_X6_106 (pc := 274) (r := (some a_98)) C hini ht dX6_init_274 (fun h_99 eh_99 => ?_)
  replace hw := hw h_99 eh_99
  refine gk_aload_n (pc := 277) C.1 0 dX6_init_277 rfl rfl ?_
  refine gk_bipush (pc := 278) (v := 100) C.1 dX6_init_278 (by decide) ?_
  obtain ⟨hn0, hby, hr1, hr2, hw⟩ := hw
  refine gh_newa (pc := 280) (atype := .int) (t := 101) (t0 := 0) (ty := .int) C ⟨by decide, by decide⟩ rfl rfl (fun _ z => by cases z) rfl q261 hn0 hby (hlm.1 ▸ hr1) (hlm.2 ▸ hr2) dX6_init_280 ?_
  obtain ⟨h_100, eh_100⟩ : ∃ z : HS, z = hNew h_99 101 (100 : Int32).toNatClampNeg (100 : Int32).toNatClampNeg := ⟨_, rfl⟩
  rw [← eh_100]
  obtain ⟨a_101, ea_101⟩ : ∃ z : Nat, z = hZ h_99 := ⟨_, rfl⟩
  rw [← ea_101]
  replace hw := hw a_101 h_100 ea_101 eh_100
  obtain ⟨ht, hw⟩ := hw
  refine gfp_X6_109 (pc := 282) (r := (some a_101)) C hini ht dX6_init_282 (fun h_102 eh_102 => ?_)
  replace hw := hw h_102 eh_102
  refine gk_aload_n (pc := 285) C.1 0 dX6_init_285 rfl rfl ?_
  refine gk_sipush (pc := 286) (v := 1400) C.1 dX6_init_286 (by decide) ?_
  obtain ⟨hn0, hby, hr1, hr2, hw⟩ := hw
  refine gh_newa (pc := 289) (atype := .int) (t := 101) (t0 := 0) (ty := .int) C ⟨by decide, by decide⟩ rfl rfl (fun _ z => by cases z) rfl q261 hn0 hby (hlm.1 ▸ hr1) (hlm.2 ▸ hr2) dX6_init_289 ?_
  obtain ⟨h_103, eh_103⟩ : ∃ z : HS, z = hNew h_102 101 (1400 : Int32).toNatClampNeg (1400 : Int32).toNatClampNeg := ⟨_, rfl⟩
  rw [← eh_103]
  obtain ⟨a_104, ea_104⟩ : ∃ z : Nat, z = hZ h_102 := ⟨_, rfl⟩
  rw [← ea_104]
  replace hw := hw a_104 h_103 ea_104 eh_103
  obtain ⟨ht, hw⟩ := hw
  refine gfp_X6_112 (pc := 291) (r := (some a_104)) C hini ht dX6_init_291 (fun h_105 eh_105 => ?_)
  replace hw := hw h_105 eh_105
  refine gk_aload_n (pc := 294) C.1 0 dX6_init_294 rfl rfl ?_
  refine gk_bipush (pc := 295) (v := 32) C.1 dX6_init_295 (by decide) ?_
  obtain ⟨hn0, hby, hr1, hr2, hw⟩ := hw
  refine gh_newa (pc := 297) (atype := .int) (t := 101) (t0 := 0) (ty := .int) C ⟨by decide, by decide⟩ rfl rfl (fun _ z => by cases z) rfl q261 hn0 hby (hlm.1 ▸ hr1) (hlm.2 ▸ hr2) dX6_init_297 ?_
  obtain ⟨h_106, eh_106⟩ : ∃ z : HS, z = hNew h_105 101 (32 : Int32).toNatClampNeg (32 : Int32).toNatClampNeg := ⟨_, rfl⟩
  rw [← eh_106]
  obtain ⟨a_107, ea_107⟩ : ∃ z : Nat, z = hZ h_105 := ⟨_, rfl⟩
  rw [← ea_107]
  replace hw := hw a_107 h_106 ea_107 eh_106
  obtain ⟨ht, hw⟩ := hw
  refine gfp_X6_115 (pc := 299) (r := (some a_107)) C hini ht dX6_init_299 (fun h_108 eh_108 => ?_)
  replace hw := hw h_108 eh_108
  refine gk_aload_n (pc := 302) C.1 0 dX6_init_302 rfl rfl ?_
  refine gk_iconst (pc := 303) (v := 1) C.1 dX6_init_303 (by decide) ?_
  obtain ⟨ht, hw⟩ := hw
  refine gfp_X6_118 (pc := 304) C ht dX6_init_304 (fun h_109 eh_109 => ?_)
  replace hw := hw h_109 eh_109
  refine gk_aload_n (pc := 307) C.1 0 dX6_init_307 rfl rfl ?_
  refine gk_iconst (pc := 308) (v := 1) C.1 dX6_init_308 (by decide) ?_
  obtain ⟨ht, hw⟩ := hw
  refine gfp_X6_122 (pc := 309) C ht dX6_init_309 (fun h_110 eh_110 => ?_)
  replace hw := hw h_110 eh_110
  refine gk_aload_n (pc := 312) C.1 0 dX6_init_312 rfl rfl ?_
  obtain ⟨ht, hw⟩ := hw
  refine gf_X6_28 (pc := 313) C ht dX6_init_313 (fun r_111 er_111 => ?_)
  replace hw := hw r_111 er_111
  refine gk_iconst (pc := 316) (v := 0) C.1 dX6_init_316 (by decide) ?_
  refine gk_bipush (pc := 317) (v := 42) C.1 dX6_init_317 (by decide) ?_
  obtain ⟨a_112, rfl, hw⟩ := hw
  obtain ⟨ht, hi, hw⟩ := hw
  refine gh_iast (pc := 319) C ht hi dX6_init_319 ?_
  obtain ⟨h_113, eh_113⟩ : ∃ z : HS, z = sA h_110 a_112 (0 : Int32).toNatClampNeg 42 := ⟨_, rfl⟩
  rw [← eh_113]
  replace hw := hw h_113 eh_113
  refine gk_aload_n (pc := 320) C.1 0 dX6_init_320 rfl rfl ?_
  refine gc_X6_125 (pc := 321) (As := []) (rest := []) C hCl (Nat.le_refl _) hw rfl rfl (Nat.le_of_ble_eq_true rfl) dX6_init_321 (fun v9 h_114 hp => ?_) (fun q_115 h_116 hw ht9 => ?_)
  rotate_left
  · exact gx_out C S0 (by rw [hTb]; decide) ht9 hw
  clear hw
  obtain ⟨rfl, hw⟩ := hp
  refine GK.at (p2 := 324) rfl ?_
  exact gh_vret (pc := 324) C S0 hret dX6_init_324 hw
/-! 176: GathersAllFaultsModel.isHolding(I)Z -/
def wb_X6_isHolding_20 (cl : CT) (lm : Nat × Nat) (Q : QT) (E : ET) (h : HS) : Prop := Q (some (.int 1)) h
theorem wk_X6_isHolding_20 {X : Ev} {G : GG} {cl : CT} {lm : Nat × Nat} {Q : QT} {E : ET} {h0 : HS} {d2 : Nat} (C : HC X G RX6 cX6_isHolding (d2 + 1)) (hCl : CallsOK (ev_l X) G d2 cl ∧ hLm G lm ∧ 8 ≤ d2 ∧ LamsOK (ev_l X) G d2 cl) (S0 : HS0 X h0) (hret : (ev_h X).sig.returnType = (Option.some Jvm.ClassFile.FieldType.boolean)) (hXn : ev_n X = 2) (hini : True) (hTb : (ev_c X).exceptionTable.toList = []) : ∀ (h : HS), wb_X6_isHolding_20 cl lm Q E  h → GH X G h (hQ X G h0 Q E) 20 [] [] := by
  have hlm := hCl.2.1
  have hd8 := hCl.2.2.1
  have hd2 : 1 ≤ d2 := Nat.le_trans (by decide) hd8
  have hLa := hCl.2.2.2
  have hd1 : 1 ≤ d2 + 1 := Nat.le_add_left _ _
  have hC9 := hCl
  replace hCl := hCl.1
  intro  h hw
  unfold wb_X6_isHolding_20 at hw
  refine gk_iconst (pc := 20) (v := 1) C.1 dX6_isHolding_20 (by decide) ?_
  refine gk_goto (pc := 21) (tgt := 25) C.1 dX6_isHolding_21 (by decide) ?_
  exact gh_zret (pc := 25) C S0 hret dX6_isHolding_25 bz1 hw
def wb_X6_isHolding (cl : CT) (lm : Nat × Nat) (Q : QT) (E : ET) (x0 : Nat) (x1 : Int32) (h : HS) : Prop := (hT h x0 = 26) ∧ (∀ r_1 : Option Nat, r_1 = hR h 100 x0 → (∃ a_2 : Nat, r_1 = some a_2 ∧ (hT h a_2 = 101 ∧ (vp_in x1 (hN h a_2) ∧ ((((hA h a_2 x1.toNatClampNeg) = 2 → (wb_X6_isHolding_20 cl lm Q E h)) ∧ (¬ (hA h a_2 x1.toNatClampNeg) = 2 → ((hT h x0 = 26) ∧ (∀ r_4 : Option Nat, r_4 = hR h 100 x0 → (∃ a_5 : Nat, r_4 = some a_5 ∧ (hT h a_5 = 101 ∧ (vp_in x1 (hN h a_5) ∧ (((¬ (hA h a_5 x1.toNatClampNeg) = 3 → (Q (some (.int 0)) h)) ∧ ((hA h a_5 x1.toNatClampNeg) = 3 → (wb_X6_isHolding_20 cl lm Q E h))))))))))))))))
theorem wx_X6_isHolding {l : Launch} (hst : l.stackTraces = false) {G : GG} {cl : CT} {lm : Nat × Nat} {Q : QT} {E : ET} {d2 : Nat} (hCl : CallsOK l G d2 cl ∧ hLm G lm ∧ 8 ≤ d2 ∧ LamsOK l G d2 cl) {x0 : Nat} {x1 : Int32} {h : HS} (hw : wb_X6_isHolding cl lm Q E x0 x1 h) : HMet l G yX6_isHolding (ws_ yX6_isHolding cX6_isHolding 2 ((Option.some Jvm.ClassFile.FieldType.boolean))) (d2 + 1) [.ref x0, .int x1] h Q E := by
  refine gh_met (own := RX6) rfl (by decide +kernel) hst (by simp only [lg_sl_i, lg_sl_r, lg_sl_a, lg_sl_2, lg_sl_f, lg_sl_0]; decide) (fun X hXl hXn hret hnm hTb h0 eh C S0 => ?_)
  subst hXl
  have hlm := hCl.2.1
  have hd8 := hCl.2.2.1
  have hd2 : 1 ≤ d2 := Nat.le_trans (by decide) hd8
  have hLa := hCl.2.2.2
  have hd1 : 1 ≤ d2 + 1 := Nat.le_add_left _ _
  have hC9 := hCl
  replace hCl := hCl.1
  have hini : True := trivial
  unfold wb_X6_isHolding at hw
  refine GK.sub (lv' := [(0, .ref x0), (1, .int x1)]) [0, 1] (by simp only [lv_args_i, lv_args_r, lv_args_a, lv_args_l, lv_args_f, lv_args_0]; rfl) ?_
  refine gk_aload_n (pc := 0) C.1 0 dX6_isHolding_0 rfl rfl ?_
  obtain ⟨ht, hw⟩ := hw
  refine gf_X6_13 (pc := 1) C ht dX6_isHolding_1 (fun r_1 er_1 => ?_)
  replace hw := hw r_1 er_1
  refine gk_iload_n (pc := 4) C.1 1 dX6_isHolding_4 rfl rfl ?_
  obtain ⟨a_2, rfl, hw⟩ := hw
  obtain ⟨ht, hi, hw⟩ := hw
  refine gh_iald (pc := 5) C ht hi dX6_isHolding_5 ?_
  refine gk_iconst (pc := 6) (v := 2) C.1 dX6_isHolding_6 (by decide) ?_
  refine gk_icmp_eq (pc := 7) (tgt := 20) C.1 dX6_isHolding_7 (by decide) (fun c_3 => ?_) (fun c_3 => ?_)
  · replace hw := hw.1 c_3
    refine GK.sub (lv' := []) [] rfl ?_
    exact wk_X6_isHolding_20 C hC9 S0 hret hXn hini hTb   _ hw
  · replace hw := hw.2 c_3
    refine gk_aload_n (pc := 10) C.1 0 dX6_isHolding_10 rfl rfl ?_
    obtain ⟨ht, hw⟩ := hw
    refine gf_X6_13 (pc := 11) C ht dX6_isHolding_11 (fun r_4 er_4 => ?_)
    replace hw := hw r_4 er_4
    refine gk_iload_n (pc := 14) C.1 1 dX6_isHolding_14 rfl rfl ?_
    obtain ⟨a_5, rfl, hw⟩ := hw
    obtain ⟨ht, hi, hw⟩ := hw
    refine gh_iald (pc := 15) C ht hi dX6_isHolding_15 ?_
    refine gk_iconst (pc := 16) (v := 3) C.1 dX6_isHolding_16 (by decide) ?_
    refine gk_icmp_ne (pc := 17) (tgt := 24) C.1 dX6_isHolding_17 (by decide) (fun c_6 => ?_) (fun c_6 => ?_)
    · replace hw := hw.1 c_6
      refine gk_iconst (pc := 24) (v := 0) C.1 dX6_isHolding_24 (by decide) ?_
      exact gh_zret (pc := 25) C S0 hret dX6_isHolding_25 bz0 hw
    · replace hw := hw.2 c_6
      refine GK.sub (lv' := []) [] rfl ?_
      exact wk_X6_isHolding_20 C hC9 S0 hret hXn hini hTb   _ hw
/-! 177: GathersAllFaultsModel.many(I)I -/
def wb_X6_many (cl : CT) (lm : Nat × Nat) (Q : QT) (E : ET) (x0 : Nat) (x1 : Int32) (h : HS) : Prop := dp_GathersAllFaultsModel_isHolding cl x0 [.int x1] h (gI (fun r_2 h_1 => ((r_2 = 0 → (Q (some (.int 0)) h_1)) ∧ (¬ r_2 = 0 → ((hT h_1 x0 = 26) ∧ (∀ r_6 : Option Nat, r_6 = hR h_1 101 x0 → (∃ a_7 : Nat, r_6 = some a_7 ∧ (hT h_1 a_7 = 101 ∧ (vp_in x1 (hN h_1 a_7) ∧ (Q (some (.int (hA h_1 a_7 x1.toNatClampNeg))) h_1)))))))))) E
theorem wx_X6_many {l : Launch} (hst : l.stackTraces = false) {G : GG} {cl : CT} {lm : Nat × Nat} {Q : QT} {E : ET} {d2 : Nat} (hCl : CallsOK l G d2 cl ∧ hLm G lm ∧ 8 ≤ d2 ∧ LamsOK l G d2 cl) {x0 : Nat} {x1 : Int32} {h : HS} (hw : wb_X6_many cl lm Q E x0 x1 h) : HMet l G yX6_many (ws_ yX6_many cX6_many 2 ((Option.some Jvm.ClassFile.FieldType.int))) (d2 + 1) [.ref x0, .int x1] h Q E := by
  refine gh_met (own := RX6) rfl (by decide +kernel) hst (by simp only [lg_sl_i, lg_sl_r, lg_sl_a, lg_sl_2, lg_sl_f, lg_sl_0]; decide) (fun X hXl hXn hret hnm hTb h0 eh C S0 => ?_)
  subst hXl
  have hlm := hCl.2.1
  have hd8 := hCl.2.2.1
  have hd2 : 1 ≤ d2 := Nat.le_trans (by decide) hd8
  have hLa := hCl.2.2.2
  have hd1 : 1 ≤ d2 + 1 := Nat.le_add_left _ _
  have hC9 := hCl
  replace hCl := hCl.1
  have hini : True := trivial
  unfold wb_X6_many at hw
  refine GK.sub (lv' := [(0, .ref x0), (1, .int x1)]) [0, 1] (by simp only [lv_args_i, lv_args_r, lv_args_a, lv_args_l, lv_args_f, lv_args_0]; rfl) ?_
  refine gk_aload_n (pc := 0) C.1 0 dX6_many_0 rfl rfl ?_
  refine gk_iload_n (pc := 1) C.1 1 dX6_many_1 rfl rfl ?_
  refine gc_X6_130 (pc := 2) (As := [.int x1]) (rest := []) C hCl (Nat.le_refl _) hw rfl rfl (Nat.le_of_ble_eq_true rfl) dX6_many_2 (fun v9 h_1 hp => ?_) (fun q_3 h_4 hw ht9 => ?_)
  rotate_left
  · exact gx_out C S0 (by rw [hTb]; decide) ht9 hw
  clear hw
  obtain ⟨r_2, rfl, hw⟩ := hp
  refine GK.at (p2 := 5) rfl ?_
  refine gk_if_eq (pc := 5) (tgt := 17) C.1 dX6_many_5 (by decide) (fun c_5 => ?_) (fun c_5 => ?_)
  · replace hw := hw.1 c_5
    refine gk_iconst (pc := 17) (v := 0) C.1 dX6_many_17 (by decide) ?_
    exact gh_iret (pc := 18) C S0 hret dX6_many_18 hw
  · replace hw := hw.2 c_5
    refine gk_aload_n (pc := 8) C.1 0 dX6_many_8 rfl rfl ?_
    obtain ⟨ht, hw⟩ := hw
    refine gf_X6_16 (pc := 9) C ht dX6_many_9 (fun r_6 er_6 => ?_)
    replace hw := hw r_6 er_6
    refine gk_iload_n (pc := 12) C.1 1 dX6_many_12 rfl rfl ?_
    obtain ⟨a_7, rfl, hw⟩ := hw
    obtain ⟨ht, hi, hw⟩ := hw
    refine gh_iald (pc := 13) C ht hi dX6_many_13 ?_
    refine gk_goto (pc := 14) (tgt := 18) C.1 dX6_many_14 (by decide) ?_
    exact gh_iret (pc := 18) C S0 hret dX6_many_18 hw
/-! 178: GathersAllFaultsModel.measures()V -/
def wb_X6_measures_17 (cl : CT) (lm : Nat × Nat) (Q : QT) (E : ET) (J7 : Nat → Int32 → HS → Prop) : Nat → Nat → Int32 → Int32 → Int32 → HS → Prop
  | 0 => fun _ _ _ _ _ => False
  | n + 1 => fun x0 x1 x2 x3 h => dp_GathersAllFaultsModel_many cl x0 [.int x1] h (gI (fun r_2 h_1 => ((r_2 ≤ x3 → ((hT h_1 x0 = 26) ∧ (∀ r_6 : Option Nat, r_6 = hR h_1 103 x0 → (∃ a_7 : Nat, r_6 = some a_7 ∧ (hT h_1 a_7 = 101 ∧ (vp_in x1 (hN h_1 a_7) ∧ (∀ h_8 : HS, h_8 = sA h_1 a_7 x1.toNatClampNeg (x2 - x1) → (∀ x_9 : Int32, x_9 = x1 + (-1) → (J7 x0 x_9 h_8))))))))) ∧ (¬ r_2 ≤ x3 → ((hT h_1 x0 = 26) ∧ (∀ r_10 : Option Nat, r_10 = hR h_1 103 x0 → (∃ a_11 : Nat, r_10 = some a_11 ∧ (hT h_1 a_11 = 101 ∧ (vp_in x2 (hN h_1 a_11) ∧ (∀ x_12 : Int32, x_12 = x2 + (hA h_1 a_11 x2.toNatClampNeg) → (∀ x_13 : Int32, x_13 = x3 + 1 → (wb_X6_measures_17 cl lm Q E J7 n x0 x1 x_12 x_13 h_1)))))))))))) E
theorem wk_X6_measures_17 {X : Ev} {G : GG} {cl : CT} {lm : Nat × Nat} {Q : QT} {E : ET} {h0 : HS} {d2 : Nat} {J7 : Nat → Int32 → HS → Prop} (C : HC X G RX6 cX6_measures (d2 + 1)) (hCl : CallsOK (ev_l X) G d2 cl ∧ hLm G lm ∧ 8 ≤ d2 ∧ LamsOK (ev_l X) G d2 cl) (S0 : HS0 X h0) (hret : (ev_h X).sig.returnType = (Option.none : Option Jvm.ClassFile.FieldType)) (hXn : ev_n X = 4) (hini : True) (hTb : (ev_c X).exceptionTable.toList = []) (hJ7 : ∀ (x0 : Nat) (x1 : Int32) (h : HS), J7 x0 x1 h → GH X G h (hQ X G h0 Q E) 7 [(0, .ref x0), (1, .int x1)] []) : ∀ (n : Nat) (x0 : Nat) (x1 : Int32) (x2 : Int32) (x3 : Int32) (h : HS), wb_X6_measures_17 cl lm Q E J7 n x0 x1 x2 x3 h → GH X G h (hQ X G h0 Q E) 17 [(0, .ref x0), (1, .int x1), (2, .int x2), (3, .int x3)] [] := by
  have hlm := hCl.2.1
  have hd8 := hCl.2.2.1
  have hd2 : 1 ≤ d2 := Nat.le_trans (by decide) hd8
  have hLa := hCl.2.2.2
  have hd1 : 1 ≤ d2 + 1 := Nat.le_add_left _ _
  have hC9 := hCl
  replace hCl := hCl.1
  intro n
  induction n with
  | zero => intro x0 x1 x2 x3 h hw; exact hw.elim
  | succ n ih =>
  intro x0 x1 x2 x3 h hw
  unfold wb_X6_measures_17 at hw
  refine gk_iload_n (pc := 17) C.1 3 dX6_measures_17 rfl rfl ?_
  refine gk_aload_n (pc := 18) C.1 0 dX6_measures_18 rfl rfl ?_
  refine gk_iload_n (pc := 19) C.1 1 dX6_measures_19 rfl rfl ?_
  refine gc_X6_134 (pc := 20) (As := [.int x1]) (rest := [.int x3]) C hCl (Nat.le_refl _) hw rfl rfl (Nat.le_of_ble_eq_true rfl) dX6_measures_20 (fun v9 h_1 hp => ?_) (fun q_3 h_4 hw ht9 => ?_)
  rotate_left
  · exact gx_out C S0 (by rw [hTb]; decide) ht9 hw
  clear hw
  obtain ⟨r_2, rfl, hw⟩ := hp
  refine GK.at (p2 := 23) rfl ?_
  refine gk_icmp_ge (pc := 23) (tgt := 41) C.1 dX6_measures_23 (by decide) (fun c_5 => ?_) (fun c_5 => ?_)
  · replace hw := hw.1 c_5
    refine gk_aload_n (pc := 41) C.1 0 dX6_measures_41 rfl rfl ?_
    obtain ⟨ht, hw⟩ := hw
    refine gf_X6_22 (pc := 42) C ht dX6_measures_42 (fun r_6 er_6 => ?_)
    replace hw := hw r_6 er_6
    refine gk_iload_n (pc := 45) C.1 1 dX6_measures_45 rfl rfl ?_
    refine gk_iload_n (pc := 46) C.1 2 dX6_measures_46 rfl rfl ?_
    refine gk_iload_n (pc := 47) C.1 1 dX6_measures_47 rfl rfl ?_
    refine gk_isub (pc := 48) C.1 dX6_measures_48 ?_
    obtain ⟨a_7, rfl, hw⟩ := hw
    obtain ⟨ht, hi, hw⟩ := hw
    refine gh_iast (pc := 49) C ht hi dX6_measures_49 ?_
    obtain ⟨h_8, eh_8⟩ : ∃ z : HS, z = sA h_1 a_7 x1.toNatClampNeg (x2 - x1) := ⟨_, rfl⟩
    rw [← eh_8]
    replace hw := hw h_8 eh_8
    obtain ⟨x_9, ex_9⟩ : ∃ z : Int32, z = x1 + (-1) := ⟨_, rfl⟩
    replace hw := hw x_9 ex_9
    refine gk_iinc (pc := 50) (v := x_9) (lv' := [(1, Value.int x_9), (0, Value.ref x0), (2, Value.int x2), (3, Value.int x3)]) C.1 1 dX6_measures_50 rfl (by rw [ex_9]; rfl) (by rw [hXn]; decide) (by first | rfl | simp [va_rf_S, va_rf_cat, cat_i, cat_a, cat_l, cat_f, fin4_0, fin4_1, fin4_2, fin4_3]) ?_
    refine gk_goto (pc := 53) (tgt := 7) C.1 dX6_measures_53 (by decide) ?_
    refine GK.sub (lv' := [(0, .ref x0), (1, .int x_9)]) [1, 0] rfl ?_
    exact hJ7 _ _ _ hw
  · replace hw := hw.2 c_5
    refine gk_iload_n (pc := 26) C.1 2 dX6_measures_26 rfl rfl ?_
    refine gk_aload_n (pc := 27) C.1 0 dX6_measures_27 rfl rfl ?_
    obtain ⟨ht, hw⟩ := hw
    refine gf_X6_22 (pc := 28) C ht dX6_measures_28 (fun r_10 er_10 => ?_)
    replace hw := hw r_10 er_10
    refine gk_iload_n (pc := 31) C.1 2 dX6_measures_31 rfl rfl ?_
    obtain ⟨a_11, rfl, hw⟩ := hw
    obtain ⟨ht, hi, hw⟩ := hw
    refine gh_iald (pc := 32) C ht hi dX6_measures_32 ?_
    refine gk_iadd (pc := 33) C.1 dX6_measures_33 ?_
    obtain ⟨x_12, ex_12⟩ : ∃ z : Int32, z = x2 + (hA h_1 a_11 x2.toNatClampNeg) := ⟨_, rfl⟩
    rw [← ex_12]
    replace hw := hw x_12 ex_12
    refine gk_istore_n (pc := 34) (lv' := [(2, Value.int x_12), (0, Value.ref x0), (1, Value.int x1), (3, Value.int x3)]) C.1 dX6_measures_34 rfl (by rw [hXn]; decide) (by first | rfl | simp [va_rf_S, va_rf_cat, cat_i, cat_a, cat_l, cat_f, fin4_0, fin4_1, fin4_2, fin4_3]) ?_
    obtain ⟨x_13, ex_13⟩ : ∃ z : Int32, z = x3 + 1 := ⟨_, rfl⟩
    replace hw := hw x_13 ex_13
    refine gk_iinc (pc := 35) (v := x_13) (lv' := [(3, Value.int x_13), (2, Value.int x_12), (0, Value.ref x0), (1, Value.int x1)]) C.1 3 dX6_measures_35 rfl (by rw [ex_13]; rfl) (by rw [hXn]; decide) (by first | rfl | simp [va_rf_S, va_rf_cat, cat_i, cat_a, cat_l, cat_f, fin4_0, fin4_1, fin4_2, fin4_3]) ?_
    refine gk_goto (pc := 38) (tgt := 17) C.1 dX6_measures_38 (by decide) ?_
    refine GK.sub (lv' := [(0, .ref x0), (1, .int x1), (2, .int x_12), (3, .int x_13)]) [2, 3, 1, 0] rfl ?_
    exact ih _ _ _ _ _ hw
def wb_X6_measures_125 (cl : CT) (lm : Nat × Nat) (Q : QT) (E : ET) (J65 : Nat → Int32 → HS → Prop) (J79 : Nat → Int32 → Int32 → Int32 → HS → Prop) (x0 : Nat) (x1 : Int32) (x2 : Int32) (x3 : Int32) (s0 : Option Nat) (s1 : Int32) (s2 : Int32) (s3 : Int32) (h : HS) : Prop := ∃ a_1 : Nat, s0 = some a_1 ∧ (hT h a_1 = 101 ∧ (vp_in s1 (hN h a_1) ∧ (∀ h_2 : HS, h_2 = sA h a_1 s1.toNatClampNeg (s2 + s3) → ((hT h_2 x0 = 26) ∧ (∀ r_3 : Option Nat, r_3 = hR h_2 103 x0 → (∃ a_4 : Nat, r_3 = some a_4 ∧ (hT h_2 a_4 = 101 ∧ (vp_in x2 (hN h_2 a_4) ∧ (∀ x_5 : Int32, x_5 = x2 + (hA h_2 a_4 x2.toNatClampNeg) → (∀ x_6 : Int32, x_6 = x3 + 1 → (J79 x0 x1 x_5 x_6 h_2)))))))))))
theorem wk_X6_measures_125 {X : Ev} {G : GG} {cl : CT} {lm : Nat × Nat} {Q : QT} {E : ET} {h0 : HS} {d2 : Nat} {J65 : Nat → Int32 → HS → Prop} {J79 : Nat → Int32 → Int32 → Int32 → HS → Prop} (C : HC X G RX6 cX6_measures (d2 + 1)) (hCl : CallsOK (ev_l X) G d2 cl ∧ hLm G lm ∧ 8 ≤ d2 ∧ LamsOK (ev_l X) G d2 cl) (S0 : HS0 X h0) (hret : (ev_h X).sig.returnType = (Option.none : Option Jvm.ClassFile.FieldType)) (hXn : ev_n X = 4) (hini : True) (hTb : (ev_c X).exceptionTable.toList = []) (hJ65 : ∀ (x0 : Nat) (x1 : Int32) (h : HS), J65 x0 x1 h → GH X G h (hQ X G h0 Q E) 65 [(0, .ref x0), (1, .int x1)] []) (hJ79 : ∀ (x0 : Nat) (x1 : Int32) (x2 : Int32) (x3 : Int32) (h : HS), J79 x0 x1 x2 x3 h → GH X G h (hQ X G h0 Q E) 79 [(0, .ref x0), (1, .int x1), (2, .int x2), (3, .int x3)] []) : ∀ (x0 : Nat) (x1 : Int32) (x2 : Int32) (x3 : Int32) (s0 : Option Nat) (s1 : Int32) (s2 : Int32) (s3 : Int32) (h : HS), wb_X6_measures_125 cl lm Q E J65 J79 x0 x1 x2 x3 s0 s1 s2 s3 h → GH X G h (hQ X G h0 Q E) 125 [(0, .ref x0), (1, .int x1), (2, .int x2), (3, .int x3)] [.int s3, .int s2, .int s1, va_rf s0] := by
  have hlm := hCl.2.1
  have hd8 := hCl.2.2.1
  have hd2 : 1 ≤ d2 := Nat.le_trans (by decide) hd8
  have hLa := hCl.2.2.2
  have hd1 : 1 ≤ d2 + 1 := Nat.le_add_left _ _
  have hC9 := hCl
  replace hCl := hCl.1
  intro x0 x1 x2 x3 s0 s1 s2 s3 h hw
  unfold wb_X6_measures_125 at hw
  refine gk_iadd (pc := 125) C.1 dX6_measures_125 ?_
  obtain ⟨a_1, rfl, hw⟩ := hw
  obtain ⟨ht, hi, hw⟩ := hw
  refine gh_iast (pc := 126) C ht hi dX6_measures_126 ?_
  obtain ⟨h_2, eh_2⟩ : ∃ z : HS, z = sA h a_1 s1.toNatClampNeg (s2 + s3) := ⟨_, rfl⟩
  rw [← eh_2]
  replace hw := hw h_2 eh_2
  refine gk_iload_n (pc := 127) C.1 2 dX6_measures_127 rfl rfl ?_
  refine gk_aload_n (pc := 128) C.1 0 dX6_measures_128 rfl rfl ?_
  obtain ⟨ht, hw⟩ := hw
  refine gf_X6_22 (pc := 129) C ht dX6_measures_129 (fun r_3 er_3 => ?_)
  replace hw := hw r_3 er_3
  refine gk_iload_n (pc := 132) C.1 2 dX6_measures_132 rfl rfl ?_
  obtain ⟨a_4, rfl, hw⟩ := hw
  obtain ⟨ht, hi, hw⟩ := hw
  refine gh_iald (pc := 133) C ht hi dX6_measures_133 ?_
  refine gk_iadd (pc := 134) C.1 dX6_measures_134 ?_
  obtain ⟨x_5, ex_5⟩ : ∃ z : Int32, z = x2 + (hA h_2 a_4 x2.toNatClampNeg) := ⟨_, rfl⟩
  rw [← ex_5]
  replace hw := hw x_5 ex_5
  refine gk_istore_n (pc := 135) (lv' := [(2, Value.int x_5), (0, Value.ref x0), (1, Value.int x1), (3, Value.int x3)]) C.1 dX6_measures_135 rfl (by rw [hXn]; decide) (by first | rfl | simp [va_rf_S, va_rf_cat, cat_i, cat_a, cat_l, cat_f, fin4_0, fin4_1, fin4_2, fin4_3]) ?_
  obtain ⟨x_6, ex_6⟩ : ∃ z : Int32, z = x3 + 1 := ⟨_, rfl⟩
  replace hw := hw x_6 ex_6
  refine gk_iinc (pc := 136) (v := x_6) (lv' := [(3, Value.int x_6), (2, Value.int x_5), (0, Value.ref x0), (1, Value.int x1)]) C.1 3 dX6_measures_136 rfl (by rw [ex_6]; rfl) (by rw [hXn]; decide) (by first | rfl | simp [va_rf_S, va_rf_cat, cat_i, cat_a, cat_l, cat_f, fin4_0, fin4_1, fin4_2, fin4_3]) ?_
  refine gk_goto (pc := 139) (tgt := 79) C.1 dX6_measures_139 (by decide) ?_
  refine GK.sub (lv' := [(0, .ref x0), (1, .int x1), (2, .int x_5), (3, .int x_6)]) [2, 3, 1, 0] rfl ?_
  exact hJ79 _ _ _ _ _ hw
def wb_X6_measures_79 (cl : CT) (lm : Nat × Nat) (Q : QT) (E : ET) (J65 : Nat → Int32 → HS → Prop) : Nat → Nat → Int32 → Int32 → Int32 → HS → Prop
  | 0 => fun _ _ _ _ _ => False
  | n + 1 => fun x0 x1 x2 x3 h => dp_GathersAllFaultsModel_many cl x0 [.int x1] h (gI (fun r_2 h_1 => ((r_2 ≤ x3 → (∀ x_6 : Int32, x_6 = x1 + 1 → (J65 x0 x_6 h_1))) ∧ (¬ r_2 ≤ x3 → ((hT h_1 x0 = 26) ∧ (∀ r_7 : Option Nat, r_7 = hR h_1 104 x0 → ((hT h_1 x0 = 26) ∧ (∀ r_8 : Option Nat, r_8 = hR h_1 104 x0 → (∃ a_9 : Nat, r_8 = some a_9 ∧ (hT h_1 a_9 = 101 ∧ (vp_in x1 (hN h_1 a_9) ∧ ((hT h_1 x0 = 26) ∧ (∀ r_10 : Option Nat, r_10 = hR h_1 100 x0 → (∃ a_11 : Nat, r_10 = some a_11 ∧ (hT h_1 a_11 = 101 ∧ (vp_in x1 (hN h_1 a_11) ∧ (((¬ (hA h_1 a_11 x1.toNatClampNeg) = 3 → ((hT h_1 x0 = 26) ∧ (∀ r_13 : Option Nat, r_13 = hR h_1 102 x0 → (∃ a_14 : Nat, r_13 = some a_14 ∧ (hT h_1 a_14 = 101 ∧ (vp_in x2 (hN h_1 a_14) ∧ (wb_X6_measures_125 cl lm Q E J65 (fun yx0 yx1 yx2 yx3 yh => wb_X6_measures_79 cl lm Q E J65 n yx0 yx1 yx2 yx3 yh) x0 x1 x2 x3 r_7 x2 (10 * (hA h_1 a_9 x1.toNatClampNeg)) (hA h_1 a_14 x2.toNatClampNeg) h_1))))))) ∧ ((hA h_1 a_11 x1.toNatClampNeg) = 3 → (wb_X6_measures_125 cl lm Q E J65 (fun yx0 yx1 yx2 yx3 yh => wb_X6_measures_79 cl lm Q E J65 n yx0 yx1 yx2 yx3 yh) x0 x1 x2 x3 r_7 x2 (10 * (hA h_1 a_9 x1.toNatClampNeg)) (6 + x3) h_1)))))))))))))))))))) E
theorem wk_X6_measures_79 {X : Ev} {G : GG} {cl : CT} {lm : Nat × Nat} {Q : QT} {E : ET} {h0 : HS} {d2 : Nat} {J65 : Nat → Int32 → HS → Prop} (C : HC X G RX6 cX6_measures (d2 + 1)) (hCl : CallsOK (ev_l X) G d2 cl ∧ hLm G lm ∧ 8 ≤ d2 ∧ LamsOK (ev_l X) G d2 cl) (S0 : HS0 X h0) (hret : (ev_h X).sig.returnType = (Option.none : Option Jvm.ClassFile.FieldType)) (hXn : ev_n X = 4) (hini : True) (hTb : (ev_c X).exceptionTable.toList = []) (hJ65 : ∀ (x0 : Nat) (x1 : Int32) (h : HS), J65 x0 x1 h → GH X G h (hQ X G h0 Q E) 65 [(0, .ref x0), (1, .int x1)] []) : ∀ (n : Nat) (x0 : Nat) (x1 : Int32) (x2 : Int32) (x3 : Int32) (h : HS), wb_X6_measures_79 cl lm Q E J65 n x0 x1 x2 x3 h → GH X G h (hQ X G h0 Q E) 79 [(0, .ref x0), (1, .int x1), (2, .int x2), (3, .int x3)] [] := by
  have hlm := hCl.2.1
  have hd8 := hCl.2.2.1
  have hd2 : 1 ≤ d2 := Nat.le_trans (by decide) hd8
  have hLa := hCl.2.2.2
  have hd1 : 1 ≤ d2 + 1 := Nat.le_add_left _ _
  have hC9 := hCl
  replace hCl := hCl.1
  intro n
  induction n with
  | zero => intro x0 x1 x2 x3 h hw; exact hw.elim
  | succ n ih =>
  intro x0 x1 x2 x3 h hw
  unfold wb_X6_measures_79 at hw
  refine gk_iload_n (pc := 79) C.1 3 dX6_measures_79 rfl rfl ?_
  refine gk_aload_n (pc := 80) C.1 0 dX6_measures_80 rfl rfl ?_
  refine gk_iload_n (pc := 81) C.1 1 dX6_measures_81 rfl rfl ?_
  refine gc_X6_134 (pc := 82) (As := [.int x1]) (rest := [.int x3]) C hCl (Nat.le_refl _) hw rfl rfl (Nat.le_of_ble_eq_true rfl) dX6_measures_82 (fun v9 h_1 hp => ?_) (fun q_3 h_4 hw ht9 => ?_)
  rotate_left
  · exact gx_out C S0 (by rw [hTb]; decide) ht9 hw
  clear hw
  obtain ⟨r_2, rfl, hw⟩ := hp
  refine GK.at (p2 := 85) rfl ?_
  refine gk_icmp_ge (pc := 85) (tgt := 142) C.1 dX6_measures_85 (by decide) (fun c_5 => ?_) (fun c_5 => ?_)
  · replace hw := hw.1 c_5
    obtain ⟨x_6, ex_6⟩ : ∃ z : Int32, z = x1 + 1 := ⟨_, rfl⟩
    replace hw := hw x_6 ex_6
    refine gk_iinc (pc := 142) (v := x_6) (lv' := [(1, Value.int x_6), (0, Value.ref x0), (2, Value.int x2), (3, Value.int x3)]) C.1 1 dX6_measures_142 rfl (by rw [ex_6]; rfl) (by rw [hXn]; decide) (by first | rfl | simp [va_rf_S, va_rf_cat, cat_i, cat_a, cat_l, cat_f, fin4_0, fin4_1, fin4_2, fin4_3]) ?_
    refine gk_goto (pc := 145) (tgt := 65) C.1 dX6_measures_145 (by decide) ?_
    refine GK.sub (lv' := [(0, .ref x0), (1, .int x_6)]) [1, 0] rfl ?_
    exact hJ65 _ _ _ hw
  · replace hw := hw.2 c_5
    refine gk_aload_n (pc := 88) C.1 0 dX6_measures_88 rfl rfl ?_
    obtain ⟨ht, hw⟩ := hw
    refine gf_X6_25 (pc := 89) C ht dX6_measures_89 (fun r_7 er_7 => ?_)
    replace hw := hw r_7 er_7
    refine gk_iload_n (pc := 92) C.1 2 dX6_measures_92 rfl rfl ?_
    refine gk_bipush (pc := 93) (v := 10) C.1 dX6_measures_93 (by decide) ?_
    refine gk_aload_n (pc := 95) C.1 0 dX6_measures_95 rfl rfl ?_
    obtain ⟨ht, hw⟩ := hw
    refine gf_X6_25 (pc := 96) C ht dX6_measures_96 (fun r_8 er_8 => ?_)
    replace hw := hw r_8 er_8
    refine gk_iload_n (pc := 99) C.1 1 dX6_measures_99 rfl rfl ?_
    obtain ⟨a_9, rfl, hw⟩ := hw
    obtain ⟨ht, hi, hw⟩ := hw
    refine gh_iald (pc := 100) C ht hi dX6_measures_100 ?_
    refine gk_imul (pc := 101) C.1 dX6_measures_101 ?_
    refine gk_aload_n (pc := 102) C.1 0 dX6_measures_102 rfl rfl ?_
    obtain ⟨ht, hw⟩ := hw
    refine gf_X6_13 (pc := 103) C ht dX6_measures_103 (fun r_10 er_10 => ?_)
    replace hw := hw r_10 er_10
    refine gk_iload_n (pc := 106) C.1 1 dX6_measures_106 rfl rfl ?_
    obtain ⟨a_11, rfl, hw⟩ := hw
    obtain ⟨ht, hi, hw⟩ := hw
    refine gh_iald (pc := 107) C ht hi dX6_measures_107 ?_
    refine gk_iconst (pc := 108) (v := 3) C.1 dX6_measures_108 (by decide) ?_
    refine gk_icmp_ne (pc := 109) (tgt := 119) C.1 dX6_measures_109 (by decide) (fun c_12 => ?_) (fun c_12 => ?_)
    · replace hw := hw.1 c_12
      refine gk_aload_n (pc := 119) C.1 0 dX6_measures_119 rfl rfl ?_
      obtain ⟨ht, hw⟩ := hw
      refine gf_X6_19 (pc := 120) C ht dX6_measures_120 (fun r_13 er_13 => ?_)
      replace hw := hw r_13 er_13
      refine gk_iload_n (pc := 123) C.1 2 dX6_measures_123 rfl rfl ?_
      obtain ⟨a_14, rfl, hw⟩ := hw
      obtain ⟨ht, hi, hw⟩ := hw
      refine gh_iald (pc := 124) C ht hi dX6_measures_124 ?_
      refine GK.sub (lv' := [(0, .ref x0), (1, .int x1), (2, .int x2), (3, .int x3)]) [0, 1, 2, 3] rfl ?_
      exact wk_X6_measures_125 C hC9 S0 hret hXn hini hTb hJ65 ih _ _ _ _ _ _ _ _ _ hw
    · replace hw := hw.2 c_12
      refine gk_bipush (pc := 112) (v := 6) C.1 dX6_measures_112 (by decide) ?_
      refine gk_iload_n (pc := 114) C.1 3 dX6_measures_114 rfl rfl ?_
      refine gk_iadd (pc := 115) C.1 dX6_measures_115 ?_
      refine gk_goto (pc := 116) (tgt := 125) C.1 dX6_measures_116 (by decide) ?_
      refine GK.sub (lv' := [(0, .ref x0), (1, .int x1), (2, .int x2), (3, .int x3)]) [0, 1, 2, 3] rfl ?_
      exact wk_X6_measures_125 C hC9 S0 hret hXn hini hTb hJ65 ih _ _ _ _ _ _ _ _ _ hw
def wb_X6_measures_65 (cl : CT) (lm : Nat × Nat) (Q : QT) (E : ET) : Nat → Nat → Int32 → HS → Prop
  | 0 => fun _ _ _ => False
  | n + 1 => fun x0 x1 h => (hT h x0 = 26) ∧ ((((hI h 105 x0) ≤ x1 → (Q none h)) ∧ (¬ (hI h 105 x0) ≤ x1 → (∀ x_2 : Int32, x_2 = x1 + 1 → (∃ fu : Nat, wb_X6_measures_79 cl lm Q E (fun yx0 yx1 yh => wb_X6_measures_65 cl lm Q E n yx0 yx1 yh) fu x0 x1 x_2 0 h)))))
theorem wk_X6_measures_65 {X : Ev} {G : GG} {cl : CT} {lm : Nat × Nat} {Q : QT} {E : ET} {h0 : HS} {d2 : Nat} (C : HC X G RX6 cX6_measures (d2 + 1)) (hCl : CallsOK (ev_l X) G d2 cl ∧ hLm G lm ∧ 8 ≤ d2 ∧ LamsOK (ev_l X) G d2 cl) (S0 : HS0 X h0) (hret : (ev_h X).sig.returnType = (Option.none : Option Jvm.ClassFile.FieldType)) (hXn : ev_n X = 4) (hini : True) (hTb : (ev_c X).exceptionTable.toList = []) : ∀ (n : Nat) (x0 : Nat) (x1 : Int32) (h : HS), wb_X6_measures_65 cl lm Q E n x0 x1 h → GH X G h (hQ X G h0 Q E) 65 [(0, .ref x0), (1, .int x1)] [] := by
  have hlm := hCl.2.1
  have hd8 := hCl.2.2.1
  have hd2 : 1 ≤ d2 := Nat.le_trans (by decide) hd8
  have hLa := hCl.2.2.2
  have hd1 : 1 ≤ d2 + 1 := Nat.le_add_left _ _
  have hC9 := hCl
  replace hCl := hCl.1
  intro n
  induction n with
  | zero => intro x0 x1 h hw; exact hw.elim
  | succ n ih =>
  intro x0 x1 h hw
  unfold wb_X6_measures_65 at hw
  refine gk_iload_n (pc := 65) C.1 1 dX6_measures_65 rfl rfl ?_
  refine gk_aload_n (pc := 66) C.1 0 dX6_measures_66 rfl rfl ?_
  obtain ⟨ht, hw⟩ := hw
  refine gf_X6_118 (pc := 67) C ht dX6_measures_67 ?_
  refine gk_icmp_ge (pc := 70) (tgt := 148) C.1 dX6_measures_70 (by decide) (fun c_1 => ?_) (fun c_1 => ?_)
  · replace hw := hw.1 c_1
    exact gh_vret (pc := 148) C S0 hret dX6_measures_148 hw
  · replace hw := hw.2 c_1
    refine gk_iload_n (pc := 73) C.1 1 dX6_measures_73 rfl rfl ?_
    refine gk_iconst (pc := 74) (v := 1) C.1 dX6_measures_74 (by decide) ?_
    refine gk_iadd (pc := 75) C.1 dX6_measures_75 ?_
    obtain ⟨x_2, ex_2⟩ : ∃ z : Int32, z = x1 + 1 := ⟨_, rfl⟩
    rw [← ex_2]
    replace hw := hw x_2 ex_2
    refine gk_istore_n (pc := 76) (lv' := [(2, Value.int x_2), (0, Value.ref x0), (1, Value.int x1)]) C.1 dX6_measures_76 rfl (by rw [hXn]; decide) (by first | rfl | simp [va_rf_S, va_rf_cat, cat_i, cat_a, cat_l, cat_f, fin4_0, fin4_1, fin4_2, fin4_3]) ?_
    refine gk_iconst (pc := 77) (v := 0) C.1 dX6_measures_77 (by decide) ?_
    refine gk_istore_n (pc := 78) (lv' := [(3, Value.int 0), (2, Value.int x_2), (0, Value.ref x0), (1, Value.int x1)]) C.1 dX6_measures_78 rfl (by rw [hXn]; decide) (by first | rfl | simp [va_rf_S, va_rf_cat, cat_i, cat_a, cat_l, cat_f, fin4_0, fin4_1, fin4_2, fin4_3]) ?_
    refine GK.sub (lv' := [(0, .ref x0), (1, .int x1), (2, .int x_2), (3, .int 0)]) [2, 3, 1, 0] rfl ?_
    obtain ⟨n9, hw⟩ := hw
    exact wk_X6_measures_79 C hC9 S0 hret hXn hini hTb ih n9 _ _ _ _ _ hw
def wb_X6_measures_7 (cl : CT) (lm : Nat × Nat) (Q : QT) (E : ET) : Nat → Nat → Int32 → HS → Prop
  | 0 => fun _ _ _ => False
  | n + 1 => fun x0 x1 h => ((x1 < 0 → ((hT h x0 = 26) ∧ (∀ r_2 : Option Nat, r_2 = hR h 104 x0 → (∃ a_3 : Nat, r_2 = some a_3 ∧ (hT h a_3 = 101 ∧ (vp_in 0 (hN h a_3) ∧ (∀ h_4 : HS, h_4 = sA h a_3 (0 : Int32).toNatClampNeg 0 → (∃ fu : Nat, wb_X6_measures_65 cl lm Q E fu x0 0 h_4)))))))) ∧ (¬ x1 < 0 → (∀ x_5 : Int32, x_5 = x1 + 1 → (∃ fu : Nat, wb_X6_measures_17 cl lm Q E (fun yx0 yx1 yh => wb_X6_measures_7 cl lm Q E n yx0 yx1 yh) fu x0 x1 x_5 0 h))))
theorem wk_X6_measures_7 {X : Ev} {G : GG} {cl : CT} {lm : Nat × Nat} {Q : QT} {E : ET} {h0 : HS} {d2 : Nat} (C : HC X G RX6 cX6_measures (d2 + 1)) (hCl : CallsOK (ev_l X) G d2 cl ∧ hLm G lm ∧ 8 ≤ d2 ∧ LamsOK (ev_l X) G d2 cl) (S0 : HS0 X h0) (hret : (ev_h X).sig.returnType = (Option.none : Option Jvm.ClassFile.FieldType)) (hXn : ev_n X = 4) (hini : True) (hTb : (ev_c X).exceptionTable.toList = []) : ∀ (n : Nat) (x0 : Nat) (x1 : Int32) (h : HS), wb_X6_measures_7 cl lm Q E n x0 x1 h → GH X G h (hQ X G h0 Q E) 7 [(0, .ref x0), (1, .int x1)] [] := by
  have hlm := hCl.2.1
  have hd8 := hCl.2.2.1
  have hd2 : 1 ≤ d2 := Nat.le_trans (by decide) hd8
  have hLa := hCl.2.2.2
  have hd1 : 1 ≤ d2 + 1 := Nat.le_add_left _ _
  have hC9 := hCl
  replace hCl := hCl.1
  intro n
  induction n with
  | zero => intro x0 x1 h hw; exact hw.elim
  | succ n ih =>
  intro x0 x1 h hw
  unfold wb_X6_measures_7 at hw
  refine gk_iload_n (pc := 7) C.1 1 dX6_measures_7 rfl rfl ?_
  refine gk_if_lt (pc := 8) (tgt := 56) C.1 dX6_measures_8 (by decide) (fun c_1 => ?_) (fun c_1 => ?_)
  · replace hw := hw.1 c_1
    refine gk_aload_n (pc := 56) C.1 0 dX6_measures_56 rfl rfl ?_
    obtain ⟨ht, hw⟩ := hw
    refine gf_X6_25 (pc := 57) C ht dX6_measures_57 (fun r_2 er_2 => ?_)
    replace hw := hw r_2 er_2
    refine gk_iconst (pc := 60) (v := 0) C.1 dX6_measures_60 (by decide) ?_
    refine gk_iconst (pc := 61) (v := 0) C.1 dX6_measures_61 (by decide) ?_
    obtain ⟨a_3, rfl, hw⟩ := hw
    obtain ⟨ht, hi, hw⟩ := hw
    refine gh_iast (pc := 62) C ht hi dX6_measures_62 ?_
    obtain ⟨h_4, eh_4⟩ : ∃ z : HS, z = sA h a_3 (0 : Int32).toNatClampNeg 0 := ⟨_, rfl⟩
    rw [← eh_4]
    replace hw := hw h_4 eh_4
    refine gk_iconst (pc := 63) (v := 0) C.1 dX6_measures_63 (by decide) ?_
    refine gk_istore_n (pc := 64) (lv' := [(1, Value.int 0), (0, Value.ref x0)]) C.1 dX6_measures_64 rfl (by rw [hXn]; decide) (by first | rfl | simp [va_rf_S, va_rf_cat, cat_i, cat_a, cat_l, cat_f, fin4_0, fin4_1, fin4_2, fin4_3]) ?_
    refine GK.sub (lv' := [(0, .ref x0), (1, .int 0)]) [1, 0] rfl ?_
    obtain ⟨n9, hw⟩ := hw
    exact wk_X6_measures_65 C hC9 S0 hret hXn hini hTb  n9 _ _ _ hw
  · replace hw := hw.2 c_1
    refine gk_iload_n (pc := 11) C.1 1 dX6_measures_11 rfl rfl ?_
    refine gk_iconst (pc := 12) (v := 1) C.1 dX6_measures_12 (by decide) ?_
    refine gk_iadd (pc := 13) C.1 dX6_measures_13 ?_
    obtain ⟨x_5, ex_5⟩ : ∃ z : Int32, z = x1 + 1 := ⟨_, rfl⟩
    rw [← ex_5]
    replace hw := hw x_5 ex_5
    refine gk_istore_n (pc := 14) (lv' := [(2, Value.int x_5), (0, Value.ref x0), (1, Value.int x1)]) C.1 dX6_measures_14 rfl (by rw [hXn]; decide) (by first | rfl | simp [va_rf_S, va_rf_cat, cat_i, cat_a, cat_l, cat_f, fin4_0, fin4_1, fin4_2, fin4_3]) ?_
    refine gk_iconst (pc := 15) (v := 0) C.1 dX6_measures_15 (by decide) ?_
    refine gk_istore_n (pc := 16) (lv' := [(3, Value.int 0), (2, Value.int x_5), (0, Value.ref x0), (1, Value.int x1)]) C.1 dX6_measures_16 rfl (by rw [hXn]; decide) (by first | rfl | simp [va_rf_S, va_rf_cat, cat_i, cat_a, cat_l, cat_f, fin4_0, fin4_1, fin4_2, fin4_3]) ?_
    refine GK.sub (lv' := [(0, .ref x0), (1, .int x1), (2, .int x_5), (3, .int 0)]) [2, 3, 1, 0] rfl ?_
    obtain ⟨n9, hw⟩ := hw
    exact wk_X6_measures_17 C hC9 S0 hret hXn hini hTb ih n9 _ _ _ _ _ hw
def wb_X6_measures (cl : CT) (lm : Nat × Nat) (Q : QT) (E : ET) (x0 : Nat) (h : HS) : Prop := (hT h x0 = 26) ∧ (∀ x_1 : Int32, x_1 = (hI h 105 x0) - 1 → (∃ fu : Nat, wb_X6_measures_7 cl lm Q E fu x0 x_1 h))
theorem wx_X6_measures {l : Launch} (hst : l.stackTraces = false) {G : GG} {cl : CT} {lm : Nat × Nat} {Q : QT} {E : ET} {d2 : Nat} (hCl : CallsOK l G d2 cl ∧ hLm G lm ∧ 8 ≤ d2 ∧ LamsOK l G d2 cl) {x0 : Nat} {h : HS} (hw : wb_X6_measures cl lm Q E x0 h) : HMet l G yX6_measures (ws_ yX6_measures cX6_measures 4 ((Option.none : Option Jvm.ClassFile.FieldType))) (d2 + 1) [.ref x0] h Q E := by
  refine gh_met (own := RX6) rfl (by decide +kernel) hst (by simp only [lg_sl_i, lg_sl_r, lg_sl_a, lg_sl_2, lg_sl_f, lg_sl_0]; decide) (fun X hXl hXn hret hnm hTb h0 eh C S0 => ?_)
  subst hXl
  have hlm := hCl.2.1
  have hd8 := hCl.2.2.1
  have hd2 : 1 ≤ d2 := Nat.le_trans (by decide) hd8
  have hLa := hCl.2.2.2
  have hd1 : 1 ≤ d2 + 1 := Nat.le_add_left _ _
  have hC9 := hCl
  replace hCl := hCl.1
  have hini : True := trivial
  unfold wb_X6_measures at hw
  refine GK.sub (lv' := [(0, .ref x0)]) [0] (by simp only [lv_args_i, lv_args_r, lv_args_a, lv_args_l, lv_args_f, lv_args_0]; rfl) ?_
  refine gk_aload_n (pc := 0) C.1 0 dX6_measures_0 rfl rfl ?_
  obtain ⟨ht, hw⟩ := hw
  refine gf_X6_118 (pc := 1) C ht dX6_measures_1 ?_
  refine gk_iconst (pc := 4) (v := 1) C.1 dX6_measures_4 (by decide) ?_
  refine gk_isub (pc := 5) C.1 dX6_measures_5 ?_
  obtain ⟨x_1, ex_1⟩ : ∃ z : Int32, z = (hI h 105 x0) - 1 := ⟨_, rfl⟩
  rw [← ex_1]
  replace hw := hw x_1 ex_1
  refine gk_istore_n (pc := 6) (lv' := [(1, Value.int x_1), (0, Value.ref x0)]) C.1 dX6_measures_6 rfl (by rw [hXn]; decide) (by first | rfl | simp [va_rf_S, va_rf_cat, cat_i, cat_a, cat_l, cat_f, fin4_0, fin4_1, fin4_2, fin4_3]) ?_
  refine GK.sub (lv' := [(0, .ref x0), (1, .int x_1)]) [1, 0] rfl ?_
  obtain ⟨n9, hw⟩ := hw
  exact wk_X6_measures_7 C hC9 S0 hret hXn hini hTb  n9 _ _ _ hw
/-! 179: GathersAllFaults$Refused.<init>(I)V -/
def wb_X8_init (cl : CT) (lm : Nat × Nat) (Q : QT) (E : ET) (x0 : Nat) (x1 : Int32) (h : HS) : Prop := hT h x0 = 16 ∧ (hI h 98 x0 = 0 ∧ (∀ h_1 : HS, h_1 = sI h 98 x0 1 → ((hT h_1 x0 = 16) ∧ (hI h_1 98 x0 = 1 ∧ (∀ h_2 : HS, h_2 = sI h_1 55 x0 x1 → (Q none h_2))))))
theorem wx_X8_init {l : Launch} (hst : l.stackTraces = false) {G : GG} {cl : CT} {lm : Nat × Nat} {Q : QT} {E : ET} {d2 : Nat} (hCl : CallsOK l G d2 cl ∧ hLm G lm ∧ 8 ≤ d2 ∧ LamsOK l G d2 cl) {x0 : Nat} {x1 : Int32} {h : HS} (hw : wb_X8_init cl lm Q E x0 x1 h) : HMet l G yX8_init (ws_ yX8_init cX8_init 2 ((Option.none : Option Jvm.ClassFile.FieldType))) (d2 + 1) [.ref x0, .int x1] h Q E := by
  refine gh_met (own := RX8) rfl (by decide +kernel) hst (by simp only [lg_sl_i, lg_sl_r, lg_sl_a, lg_sl_2, lg_sl_f, lg_sl_0]; decide) (fun X hXl hXn hret hnm hTb h0 eh C S0 => ?_)
  subst hXl
  have hlm := hCl.2.1
  have hd8 := hCl.2.2.1
  have hd2 : 1 ≤ d2 := Nat.le_trans (by decide) hd8
  have hLa := hCl.2.2.2
  have hd1 : 1 ≤ d2 + 1 := Nat.le_add_left _ _
  have hC9 := hCl
  replace hCl := hCl.1
  have hini : (ev_h X).name = "<init>" := hnm.1
  unfold wb_X8_init at hw
  refine GK.sub (lv' := [(0, .ref x0), (1, .int x1)]) [0, 1] (by simp only [lv_args_i, lv_args_r, lv_args_a, lv_args_l, lv_args_f, lv_args_0]; rfl) ?_
  refine gk_aload_n (pc := 0) C.1 0 dX8_init_0 rfl rfl ?_
  obtain ⟨ht, hfr, hw⟩ := hw
  refine gh_supX8 C ht hfr hd8 (Nat.le_of_ble_eq_true rfl) dX8_init_1 (fun h_1 eh_1 => ?_)
  replace hw := hw h_1 eh_1
  refine gk_aload_n (pc := 4) C.1 0 dX8_init_4 rfl rfl ?_
  refine gk_iload_n (pc := 5) C.1 1 dX8_init_5 rfl rfl ?_
  obtain ⟨ht, hw⟩ := hw
  obtain ⟨hfr, hw⟩ := hw
  refine gfp_X8_7 (pc := 6) C hini hfr ht dX8_init_6 (fun h_2 eh_2 => ?_)
  replace hw := hw h_2 eh_2
  exact gh_vret (pc := 9) C S0 hret dX8_init_9 hw
