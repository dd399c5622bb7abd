set_option maxRecDepth 100000
/-! 160: GathersAllFaults$Compiled.of(LGathersAllFaults$Value;)LGathersAllFaults$Finding; -/
def wb_X3_of (cl : CT) (lm : Nat × Nat) (Q : QT) (E : ET) (x0 : Nat) (x1 : Option Nat) (h : HS) : Prop := (hT h x0 = 11) ∧ (∀ r_1 : Option Nat, r_1 = hR h 34 x0 → ((hT h x0 = 11) ∧ (∀ r_2 : Option Nat, r_2 = hR h 36 x0 → (∃ a_3 : Nat, r_2 = some a_3 ∧ (dp_Sink_emptied cl a_3 [] h (gR (fun r_5 h_4 => cl 51 [va_rf r_1, va_rf x1, .int 0, va_rf r_5] h_4 (gR (fun r_9 h_8 => Q (some (va_rf r_9)) h_8)) E)) E)))))
theorem wx_X3_of {l : Launch} (hst : l.stackTraces = false) {G : GG} {cl : CT} {lm : Nat × Nat} {Q : QT} {E : ET} {d2 : Nat} (hCl : CallsOK l G d2 cl ∧ hLm G lm ∧ 8 ≤ d2 ∧ LamsOK l G d2 cl) {x0 : Nat} {x1 : Option Nat} {h : HS} (hw : wb_X3_of cl lm Q E x0 x1 h) : HMet l G yX3_of (ws_ yX3_of cX3_of 2 ((Option.some (Jvm.ClassFile.FieldType.object "GathersAllFaults$Finding")))) (d2 + 1) [.ref x0, va_rf x1] h Q E := by
  refine gh_met (own := RX3) rfl (by decide +kernel) hst (by simp only [lg_sl_i, lg_sl_r, lg_sl_a, lg_sl_2, lg_sl_f, lg_sl_0]; decide) (fun X hXl hXn hret hnm hTb h0 eh C S0 => ?_)
  subst hXl
  have hlm := hCl.2.1
  have hd8 := hCl.2.2.1
  have hd2 : 1 ≤ d2 := Nat.le_trans (by decide) hd8
  have hLa := hCl.2.2.2
  have hd1 : 1 ≤ d2 + 1 := Nat.le_add_left _ _
  have hC9 := hCl
  replace hCl := hCl.1
  have hini : True := trivial
  unfold wb_X3_of at hw
  refine GK.sub (lv' := [(0, .ref x0), (1, va_rf x1)]) [0, 1] (by simp only [lv_args_i, lv_args_r, lv_args_a, lv_args_l, lv_args_f, lv_args_0]; rfl) ?_
  refine gk_aload_n (pc := 0) C.1 0 dX3_of_0 rfl rfl ?_
  obtain ⟨ht, hw⟩ := hw
  refine gf_X3_11 (pc := 1) C ht dX3_of_1 (fun r_1 er_1 => ?_)
  replace hw := hw r_1 er_1
  refine gk_qload_n (pc := 4) C.1 1 dX3_of_4 rfl rfl ?_
  refine gk_iconst (pc := 5) (v := 0) C.1 dX3_of_5 (by decide) ?_
  refine gk_aload_n (pc := 6) C.1 0 dX3_of_6 rfl rfl ?_
  obtain ⟨ht, hw⟩ := hw
  refine gf_X3_24 (pc := 7) C ht dX3_of_7 (fun r_2 er_2 => ?_)
  replace hw := hw r_2 er_2
  obtain ⟨a_3, rfl, hw⟩ := hw
  refine gc_X3_31 (pc := 10) (As := []) (rest := [.int 0, va_rf x1, va_rf r_1]) C hCl (Nat.le_refl _) hw rfl rfl (by simp [va_rf_S, va_rf_cat, cat_i, cat_a, cat_l, cat_f, fin4_0, fin4_1, fin4_2, fin4_3]) dX3_of_10 (fun v9 h_4 hp => ?_) (fun q_6 h_7 hw ht9 => ?_)
  rotate_left
  · exact gx_out C S0 (by rw [hTb]; decide) ht9 hw
  clear hw
  obtain ⟨r_5, rfl, hw⟩ := hp
  refine GK.at (p2 := 13) rfl ?_
  refine gc_X3_35 (pc := 13) (As := [va_rf r_1, va_rf x1, .int 0, va_rf r_5]) (rest := []) C hCl (Nat.le_refl _) hw rfl rfl (Nat.le_of_ble_eq_true rfl) dX3_of_13 (fun v9 h_8 hp => ?_) (fun q_10 h_11 hw ht9 => ?_)
  rotate_left
  · exact gx_out C S0 (by rw [hTb]; decide) ht9 hw
  clear hw
  obtain ⟨r_9, rfl, hw⟩ := hp
  refine GK.at (p2 := 16) rfl ?_
  exact gh_aret (pc := 16) (r := r_9) C S0 hret (Or.inl ⟨_, rfl⟩) dX3_of_16 hw
/-! 161: GathersAllFaults$Sink.emptied()LGathersAllFaults$Sink; -/
def wb_X4_emptied (cl : CT) (lm : Nat × Nat) (Q : QT) (E : ET) (x0 : Nat) (h : HS) : Prop := (hT h x0 = 10) ∧ (∀ h_1 : HS, h_1 = sI h 31 x0 0 → ((hT h_1 x0 = 10) ∧ (∀ h_2 : HS, h_2 = sI h_1 33 x0 0 → (Q (some (va_rf (some x0))) h_2))))
theorem wx_X4_emptied {l : Launch} (hst : l.stackTraces = false) {G : GG} {cl : CT} {lm : Nat × Nat} {Q : QT} {E : ET} {d2 : Nat} (hCl : CallsOK l G d2 cl ∧ hLm G lm ∧ 8 ≤ d2 ∧ LamsOK l G d2 cl) {x0 : Nat} {h : HS} (hw : wb_X4_emptied cl lm Q E x0 h) : HMet l G yX4_emptied (ws_ yX4_emptied cX4_emptied 1 ((Option.some (Jvm.ClassFile.FieldType.object "GathersAllFaults$Sink")))) (d2 + 1) [.ref x0] h Q E := by
  refine gh_met (own := RX4) rfl (by decide +kernel) hst (by simp only [lg_sl_i, lg_sl_r, lg_sl_a, lg_sl_2, lg_sl_f, lg_sl_0]; decide) (fun X hXl hXn hret hnm hTb h0 eh C S0 => ?_)
  subst hXl
  have hlm := hCl.2.1
  have hd8 := hCl.2.2.1
  have hd2 : 1 ≤ d2 := Nat.le_trans (by decide) hd8
  have hLa := hCl.2.2.2
  have hd1 : 1 ≤ d2 + 1 := Nat.le_add_left _ _
  have hC9 := hCl
  replace hCl := hCl.1
  have hini : True := trivial
  unfold wb_X4_emptied at hw
  refine GK.sub (lv' := [(0, .ref x0)]) [0] (by simp only [lv_args_i, lv_args_r, lv_args_a, lv_args_l, lv_args_f, lv_args_0]; rfl) ?_
  refine gk_aload_n (pc := 0) C.1 0 dX4_emptied_0 rfl rfl ?_
  refine gk_iconst (pc := 1) (v := 0) C.1 dX4_emptied_1 (by decide) ?_
  obtain ⟨ht, hw⟩ := hw
  refine gfp_X4_21 (pc := 2) C ht dX4_emptied_2 (fun h_1 eh_1 => ?_)
  replace hw := hw h_1 eh_1
  refine gk_aload_n (pc := 5) C.1 0 dX4_emptied_5 rfl rfl ?_
  refine gk_iconst (pc := 6) (v := 0) C.1 dX4_emptied_6 (by decide) ?_
  obtain ⟨ht, hw⟩ := hw
  refine gfp_X4_25 (pc := 7) C ht dX4_emptied_7 (fun h_2 eh_2 => ?_)
  replace hw := hw h_2 eh_2
  refine gk_aload_n (pc := 10) C.1 0 dX4_emptied_10 rfl rfl ?_
  exact gh_aret (pc := 11) (r := (some x0)) C S0 hret (Or.inl ⟨_, rfl⟩) dX4_emptied_11 hw
/-! 162: GathersAllFaults$Sink.finding()LGathersAllFaults$Finding; -/
def wb_X4_finding_70 (cl : CT) (lm : Nat × Nat) (Q : QT) (E : ET) (x0 : Nat) (h : HS) : Prop := (hT h x0 = 10) ∧ ((hT h x0 = 10) ∧ (∀ h_1 : HS, h_1 = sI h 31 x0 ((hI h 31 x0) + 1) → ((hT h_1 x0 = 10) ∧ (∀ r_2 : Option Nat, r_2 = hR h_1 30 x0 → ((hT h_1 x0 = 10) ∧ (∃ a_3 : Nat, r_2 = some a_3 ∧ (hT h_1 a_3 = 112 ∧ (vp_in ((hI h_1 31 x0) - 1) (hN h_1 a_3) ∧ (∀ r_4 : Option Nat, r_4 = hB h_1 a_3 ((hI h_1 31 x0) - 1).toNatClampNeg → (∃ a_5 : Nat, r_4 = some a_5 ∧ (dp_Finding_emptied cl a_5 [] h_1 (gR (fun r_7 h_6 => Q (some (va_rf r_7)) h_6)) E)))))))))))
theorem wk_X4_finding_70 {X : Ev} {G : GG} {cl : CT} {lm : Nat × Nat} {Q : QT} {E : ET} {h0 : HS} {d2 : Nat} (C : HC X G RX4 cX4_finding (d2 + 1)) (hCl : CallsOK (ev_l X) G d2 cl ∧ hLm G lm ∧ 8 ≤ d2 ∧ LamsOK (ev_l X) G d2 cl) (S0 : HS0 X h0) (hret : (ev_h X).sig.returnType = (Option.some (Jvm.ClassFile.FieldType.object "GathersAllFaults$Finding"))) (hXn : ev_n X = 2) (hini : True) (hTb : (ev_c X).exceptionTable.toList = []) : ∀ (x0 : Nat) (h : HS), wb_X4_finding_70 cl lm Q E x0 h → GH X G h (hQ X G h0 Q E) 70 [(0, .ref x0)] [] := by
  have hlm := hCl.2.1
  have hd8 := hCl.2.2.1
  have hd2 : 1 ≤ d2 := Nat.le_trans (by decide) hd8
  have hLa := hCl.2.2.2
  have hd1 : 1 ≤ d2 + 1 := Nat.le_add_left _ _
  have hC9 := hCl
  replace hCl := hCl.1
  intro x0 h hw
  unfold wb_X4_finding_70 at hw
  refine gk_aload_n (pc := 70) C.1 0 dX4_finding_70 rfl rfl ?_
  refine gk_dup (pc := 71) C.1 dX4_finding_71 rfl ?_
  obtain ⟨ht, hw⟩ := hw
  refine gf_X4_21 (pc := 72) C ht dX4_finding_72 ?_
  refine gk_iconst (pc := 75) (v := 1) C.1 dX4_finding_75 (by decide) ?_
  refine gk_iadd (pc := 76) C.1 dX4_finding_76 ?_
  obtain ⟨ht, hw⟩ := hw
  refine gfp_X4_21 (pc := 77) C ht dX4_finding_77 (fun h_1 eh_1 => ?_)
  replace hw := hw h_1 eh_1
  refine gk_aload_n (pc := 80) C.1 0 dX4_finding_80 rfl rfl ?_
  obtain ⟨ht, hw⟩ := hw
  refine gf_X4_9 (pc := 81) C ht dX4_finding_81 (fun r_2 er_2 => ?_)
  replace hw := hw r_2 er_2
  refine gk_aload_n (pc := 84) C.1 0 dX4_finding_84 rfl rfl ?_
  obtain ⟨ht, hw⟩ := hw
  refine gf_X4_21 (pc := 85) C ht dX4_finding_85 ?_
  refine gk_iconst (pc := 88) (v := 1) C.1 dX4_finding_88 (by decide) ?_
  refine gk_isub (pc := 89) C.1 dX4_finding_89 ?_
  obtain ⟨a_3, rfl, hw⟩ := hw
  obtain ⟨ht, hi, hw⟩ := hw
  refine gh_aald (pc := 90) (t0 := 4) (E := "GathersAllFaults$Finding") C ht (by decide) (by decide) rfl hi dX4_finding_90 ?_
  obtain ⟨r_4, er_4⟩ : ∃ z : Option Nat, z = hB h_1 a_3 ((hI h_1 31 x0) - 1).toNatClampNeg := ⟨_, rfl⟩
  rw [← er_4]
  replace hw := hw r_4 er_4
  obtain ⟨a_5, rfl, hw⟩ := hw
  refine gc_X4_37 (pc := 91) (As := []) (rest := []) C hCl (Nat.le_refl _) hw rfl rfl (Nat.le_of_ble_eq_true rfl) dX4_finding_91 (fun v9 h_6 hp => ?_) (fun q_8 h_9 hw ht9 => ?_)
  rotate_left
  · exact gx_out C S0 (by rw [hTb]; decide) ht9 hw
  clear hw
  obtain ⟨r_7, rfl, hw⟩ := hp
  refine GK.at (p2 := 94) rfl ?_
  exact gh_aret (pc := 94) (r := r_7) C S0 hret (Or.inl ⟨_, rfl⟩) dX4_finding_94 hw
def wb_X4_finding_41 (cl : CT) (lm : Nat × Nat) (Q : QT) (E : ET) (x0 : Nat) (h : HS) : Prop := (hT h x0 = 10) ∧ (∀ r_1 : Option Nat, r_1 = hR h 30 x0 → ((hT h x0 = 10) ∧ (∃ a_2 : Nat, r_1 = some a_2 ∧ (hT h a_2 = 112 ∧ (vp_in (hI h 31 x0) (hN h a_2) ∧ (∀ r_3 : Option Nat, r_3 = hB h a_2 (hI h 31 x0).toNatClampNeg → ((r_3 = none → ((hT h x0 = 10) ∧ (∀ r_6 : Option Nat, r_6 = hR h 30 x0 → ((hT h x0 = 10) ∧ (hZ h + 1 ≤ lm.1 ∧ (hL h + 3 ≤ lm.2 ∧ (∀ (a_8 : Nat) (h_7 : HS), a_8 = hZ h → h_7 = hNew h 9 0 3 → (cl 236 (.ref a_8 :: [.ref x0]) h_7 (gV (fun h_9 => ∃ a_12 : Nat, r_6 = some a_12 ∧ (hT h_9 a_12 = 112 ∧ (vp_in (hI h 31 x0) (hN h_9 a_12) ∧ (as_X17 h_9 (some a_8) ∧ (∀ h_13 : HS, h_13 = sB h_9 a_12 (hI h 31 x0).toNatClampNeg (some a_8) → (wb_X4_finding_70 cl lm Q E x0 h_13))))))) E)))))))) ∧ (∀ a_5 : Nat, r_3 = some a_5 → (wb_X4_finding_70 cl lm Q E x0 h)))))))))
theorem wk_X4_finding_41 {X : Ev} {G : GG} {cl : CT} {lm : Nat × Nat} {Q : QT} {E : ET} {h0 : HS} {d2 : Nat} (C : HC X G RX4 cX4_finding (d2 + 1)) (hCl : CallsOK (ev_l X) G d2 cl ∧ hLm G lm ∧ 8 ≤ d2 ∧ LamsOK (ev_l X) G d2 cl) (S0 : HS0 X h0) (hret : (ev_h X).sig.returnType = (Option.some (Jvm.ClassFile.FieldType.object "GathersAllFaults$Finding"))) (hXn : ev_n X = 2) (hini : True) (hTb : (ev_c X).exceptionTable.toList = []) : ∀ (x0 : Nat) (h : HS), wb_X4_finding_41 cl lm Q E x0 h → GH X G h (hQ X G h0 Q E) 41 [(0, .ref x0)] [] := by
  have hlm := hCl.2.1
  have hd8 := hCl.2.2.1
  have hd2 : 1 ≤ d2 := Nat.le_trans (by decide) hd8
  have hLa := hCl.2.2.2
  have hd1 : 1 ≤ d2 + 1 := Nat.le_add_left _ _
  have hC9 := hCl
  replace hCl := hCl.1
  intro x0 h hw
  unfold wb_X4_finding_41 at hw
  refine gk_aload_n (pc := 41) C.1 0 dX4_finding_41 rfl rfl ?_
  obtain ⟨ht, hw⟩ := hw
  refine gf_X4_9 (pc := 42) C ht dX4_finding_42 (fun r_1 er_1 => ?_)
  replace hw := hw r_1 er_1
  refine gk_aload_n (pc := 45) C.1 0 dX4_finding_45 rfl rfl ?_
  obtain ⟨ht, hw⟩ := hw
  refine gf_X4_21 (pc := 46) C ht dX4_finding_46 ?_
  obtain ⟨a_2, rfl, hw⟩ := hw
  obtain ⟨ht, hi, hw⟩ := hw
  refine gh_aald (pc := 49) (t0 := 4) (E := "GathersAllFaults$Finding") C ht (by decide) (by decide) rfl hi dX4_finding_49 ?_
  obtain ⟨r_3, er_3⟩ : ∃ z : Option Nat, z = hB h a_2 (hI h 31 x0).toNatClampNeg := ⟨_, rfl⟩
  rw [← er_3]
  replace hw := hw r_3 er_3
  refine gk_ifnonnull (pc := 50) (tgt := 70) C.1 dX4_finding_50 (by decide) (fun c_4 => ?_) (fun c_4 => ?_)
  · obtain ⟨a_5, c_4⟩ := Option.ne_none_iff_exists'.mp c_4
    replace hw := hw.2 a_5 c_4
    subst c_4
    refine GK.sub (lv' := [(0, .ref x0)]) [0] rfl ?_
    exact wk_X4_finding_70 C hC9 S0 hret hXn hini hTb  _ _ hw
  · replace hw := hw.1 c_4
    subst c_4
    refine gk_aload_n (pc := 53) C.1 0 dX4_finding_53 rfl rfl ?_
    obtain ⟨ht, hw⟩ := hw
    refine gf_X4_9 (pc := 54) C ht dX4_finding_54 (fun r_6 er_6 => ?_)
    replace hw := hw r_6 er_6
    refine gk_aload_n (pc := 57) C.1 0 dX4_finding_57 rfl rfl ?_
    obtain ⟨ht, hw⟩ := hw
    refine gf_X4_21 (pc := 58) C ht dX4_finding_58 ?_
    obtain ⟨hr1, hr2, hw⟩ := hw
    refine gn_X4_7 (pc := 61) C (hlm.1 ▸ hr1) (hlm.2 ▸ hr2) dX4_finding_61 (fun h_7 eh_7 => ?_)
    obtain ⟨a_8, ea_8⟩ : ∃ z : Nat, z = hZ h := ⟨_, rfl⟩
    rw [← ea_8]
    replace hw := hw a_8 h_7 ea_8 eh_7
    refine gk_dup (pc := 64) C.1 dX4_finding_64 rfl ?_
    refine gk_aload_n (pc := 65) C.1 0 dX4_finding_65 rfl rfl ?_
    refine gc_X4_34 (pc := 66) (As := [.ref x0]) (rest := [.ref a_8, .int (hI h 31 x0), va_rf r_6]) C hCl (Nat.le_refl _) hw rfl rfl (by simp [va_rf_S, va_rf_cat, cat_i, cat_a, cat_l, cat_f, fin4_0, fin4_1, fin4_2, fin4_3]) dX4_finding_66 (fun v9 h_9 hp => ?_) (fun q_10 h_11 hw ht9 => ?_)
    rotate_left
    · exact gx_out C S0 (by rw [hTb]; decide) ht9 hw
    clear hw
    obtain ⟨rfl, hw⟩ := hp
    refine GK.at (p2 := 69) rfl ?_
    obtain ⟨a_12, rfl, hw⟩ := hw
    obtain ⟨ht, hi, hs, hw⟩ := hw
    refine gh_aast (pc := 69) (r := (some a_8)) (t0 := 4) (E := "GathersAllFaults$Finding") C ht (by decide) (by decide) rfl (as_X17_ok hs) hi dX4_finding_69 ?_
    obtain ⟨h_13, eh_13⟩ : ∃ z : HS, z = sB h_9 a_12 (hI h 31 x0).toNatClampNeg (some a_8) := ⟨_, rfl⟩
    rw [← eh_13]
    replace hw := hw h_13 eh_13
    refine GK.sub (lv' := [(0, .ref x0)]) [0] rfl ?_
    exact wk_X4_finding_70 C hC9 S0 hret hXn hini hTb  _ _ hw
def wb_X4_finding (cl : CT) (lm : Nat × Nat) (Q : QT) (E : ET) (x0 : Nat) (h : HS) : Prop := (hT h x0 = 10) ∧ ((hT h x0 = 10) ∧ (∀ r_1 : Option Nat, r_1 = hR h 30 x0 → (∃ a_2 : Nat, r_1 = some a_2 ∧ (hT h a_2 = 112 ∧ (((¬ (hI h 31 x0) = (nI (hN h a_2)) → (wb_X4_finding_41 cl lm Q E x0 h)) ∧ ((hI h 31 x0) = (nI (hN h a_2)) → ((hT h x0 = 10) ∧ (¬ (2 * (hI h 31 x0)) < 0 ∧ ((2 * (hI h 31 x0)).toNatClampNeg * 4 ≤ 536870912 ∧ (hZ h + 1 ≤ lm.1 ∧ (hL h + (2 * (hI h 31 x0)).toNatClampNeg ≤ lm.2 ∧ (∀ (a_5 : Nat) (h_4 : HS), a_5 = hZ h → h_4 = hNew h 112 (2 * (hI h 31 x0)).toNatClampNeg (2 * (hI h 31 x0)).toNatClampNeg → ((hT h_4 x0 = 10) ∧ (∀ r_6 : Option Nat, r_6 = hR h_4 30 x0 → ((hT h_4 x0 = 10) ∧ (∃ a_7 : Nat, r_6 = some a_7 ∧ (hT h_4 a_7 = 112 ∧ (hT h_4 a_5 = 112 ∧ (¬ (0 : Int32) < 0 ∧ (¬ (0 : Int32) < 0 ∧ (¬ (hI h_4 31 x0) < 0 ∧ ((0 : Int32).toNatClampNeg + (hI h_4 31 x0).toNatClampNeg ≤ hN h_4 a_7 ∧ ((0 : Int32).toNatClampNeg + (hI h_4 31 x0).toNatClampNeg ≤ hN h_4 a_5 ∧ ((∀ i : Nat, i < (hI h_4 31 x0).toNatClampNeg → as_X17 h_4 (hB h_4 a_7 ((0 : Int32).toNatClampNeg + i))) ∧ (∀ h_8 : HS, h_8 = sCpy h_4 a_5 a_7 (0 : Int32).toNatClampNeg (0 : Int32).toNatClampNeg (hI h_4 31 x0).toNatClampNeg → ((hT h_8 x0 = 10) ∧ (∀ h_9 : HS, h_9 = sR h_8 30 x0 (some a_5) → (wb_X4_finding_41 cl lm Q E x0 h_9)))))))))))))))))))))))))))))
theorem wx_X4_finding {l : Launch} (hst : l.stackTraces = false) {G : GG} {cl : CT} {lm : Nat × Nat} {Q : QT} {E : ET} {d2 : Nat} (hCl : CallsOK l G d2 cl ∧ hLm G lm ∧ 8 ≤ d2 ∧ LamsOK l G d2 cl) {x0 : Nat} {h : HS} (hw : wb_X4_finding cl lm Q E x0 h) : HMet l G yX4_finding (ws_ yX4_finding cX4_finding 2 ((Option.some (Jvm.ClassFile.FieldType.object "GathersAllFaults$Finding")))) (d2 + 1) [.ref x0] h Q E := by
  refine gh_met (own := RX4) rfl (by decide +kernel) hst (by simp only [lg_sl_i, lg_sl_r, lg_sl_a, lg_sl_2, lg_sl_f, lg_sl_0]; decide) (fun X hXl hXn hret hnm hTb h0 eh C S0 => ?_)
  subst hXl
  have hlm := hCl.2.1
  have hd8 := hCl.2.2.1
  have hd2 : 1 ≤ d2 := Nat.le_trans (by decide) hd8
  have hLa := hCl.2.2.2
  have hd1 : 1 ≤ d2 + 1 := Nat.le_add_left _ _
  have hC9 := hCl
  replace hCl := hCl.1
  have hini : True := trivial
  unfold wb_X4_finding at hw
  refine GK.sub (lv' := [(0, .ref x0)]) [0] (by simp only [lv_args_i, lv_args_r, lv_args_a, lv_args_l, lv_args_f, lv_args_0]; rfl) ?_
  refine gk_aload_n (pc := 0) C.1 0 dX4_finding_0 rfl rfl ?_
  obtain ⟨ht, hw⟩ := hw
  refine gf_X4_21 (pc := 1) C ht dX4_finding_1 ?_
  refine gk_aload_n (pc := 4) C.1 0 dX4_finding_4 rfl rfl ?_
  obtain ⟨ht, hw⟩ := hw
  refine gf_X4_9 (pc := 5) C ht dX4_finding_5 (fun r_1 er_1 => ?_)
  replace hw := hw r_1 er_1
  obtain ⟨a_2, rfl, hw⟩ := hw
  obtain ⟨ht, hw⟩ := hw
  refine gh_len (pc := 8) (t0 := 4) (ty := tyA 112) C ht (by decide) rfl dX4_finding_8 ?_
  refine gk_icmp_ne (pc := 9) (tgt := 41) C.1 dX4_finding_9 (by decide) (fun c_3 => ?_) (fun c_3 => ?_)
  · replace hw := hw.1 c_3
    refine GK.sub (lv' := [(0, .ref x0)]) [0] rfl ?_
    exact wk_X4_finding_41 C hC9 S0 hret hXn hini hTb  _ _ hw
  · replace hw := hw.2 c_3
    refine gk_iconst (pc := 12) (v := 2) C.1 dX4_finding_12 (by decide) ?_
    refine gk_aload_n (pc := 13) C.1 0 dX4_finding_13 rfl rfl ?_
    obtain ⟨ht, hw⟩ := hw
    refine gf_X4_21 (pc := 14) C ht dX4_finding_14 ?_
    refine gk_imul (pc := 17) C.1 dX4_finding_17 ?_
    obtain ⟨hn0, hby, hr1, hr2, hw⟩ := hw
    refine gh_anew (pc := 18) (t := 112) (t0 := 4) (E := "GathersAllFaults$Finding") C ⟨by decide, by decide⟩ rfl q221 q222 hn0 hby (hlm.1 ▸ hr1) (hlm.2 ▸ hr2) dX4_finding_18 ?_
    obtain ⟨h_4, eh_4⟩ : ∃ z : HS, z = hNew h 112 (2 * (hI h 31 x0)).toNatClampNeg (2 * (hI h 31 x0)).toNatClampNeg := ⟨_, rfl⟩
    rw [← eh_4]
    obtain ⟨a_5, ea_5⟩ : ∃ z : Nat, z = hZ h := ⟨_, rfl⟩
    rw [← ea_5]
    replace hw := hw a_5 h_4 ea_5 eh_4
    refine gk_astore_n (pc := 21) (lv' := [(1, Value.ref a_5), (0, Value.ref x0)]) C.1 dX4_finding_21 rfl (by rw [hXn]; decide) (by first | rfl | simp [va_rf_S, va_rf_cat, cat_i, cat_a, cat_l, cat_f, fin4_0, fin4_1, fin4_2, fin4_3]) ?_
    refine gk_aload_n (pc := 22) C.1 1 dX4_finding_22 rfl rfl ?_
    obtain ⟨ht, hw⟩ := hw
    refine gf_X4_9 (pc := 23) C ht dX4_finding_23 (fun r_6 er_6 => ?_)
    replace hw := hw r_6 er_6
    refine gk_iconst (pc := 26) (v := 0) C.1 dX4_finding_26 (by decide) ?_
    refine gk_aload_n (pc := 27) C.1 0 dX4_finding_27 rfl rfl ?_
    refine gk_iconst (pc := 28) (v := 0) C.1 dX4_finding_28 (by decide) ?_
    refine gk_aload_n (pc := 29) C.1 1 dX4_finding_29 rfl rfl ?_
    obtain ⟨ht, hw⟩ := hw
    refine gf_X4_21 (pc := 30) C ht dX4_finding_30 ?_
    obtain ⟨a_7, rfl, hw⟩ := hw
    obtain ⟨z1, z2, z3, z4, z5, z6, z7, z8, hw⟩ := hw
    refine gh_copy (pc := 33) (t0 := 4) (E := "GathersAllFaults$Finding") C q1269 q1211 q1210 q171 z1 z2 (by decide) (by decide) rfl z3 z4 z5 z6 z7 (fun i hi y hy => as_X17_ok (z8 i hi) y hy) hd1 (Nat.le_of_ble_eq_true rfl) dX4_finding_33 ?_
    obtain ⟨h_8, eh_8⟩ : ∃ z : HS, z = sCpy h_4 a_5 a_7 (0 : Int32).toNatClampNeg (0 : Int32).toNatClampNeg (hI h_4 31 x0).toNatClampNeg := ⟨_, rfl⟩
    rw [← eh_8]
    replace hw := hw h_8 eh_8
    refine gk_aload_n (pc := 36) C.1 1 dX4_finding_36 rfl rfl ?_
    refine gk_aload_n (pc := 37) C.1 0 dX4_finding_37 rfl rfl ?_
    obtain ⟨ht, hw⟩ := hw
    refine gfp_X4_9 (pc := 38) (r := (some a_5)) C ht dX4_finding_38 (fun h_9 eh_9 => ?_)
    replace hw := hw h_9 eh_9
    refine GK.sub (lv' := [(0, .ref x0)]) [1] rfl ?_
    exact wk_X4_finding_41 C hC9 S0 hret hXn hini hTb  _ _ hw
/-! 163: GathersAllFaults$Sink.found(II)LGathersAllFaults$Found; -/
def wb_X4_found_69 (cl : CT) (lm : Nat × Nat) (Q : QT) (E : ET) (x0 : Nat) (x1 : Int32) (x2 : Int32) (h : HS) : Prop := (hT h x0 = 10) ∧ ((hT h x0 = 10) ∧ (∀ h_1 : HS, h_1 = sI h 33 x0 ((hI h 33 x0) + 1) → ((hT h_1 x0 = 10) ∧ (∀ r_2 : Option Nat, r_2 = hR h_1 32 x0 → ((hT h_1 x0 = 10) ∧ (∃ a_3 : Nat, r_2 = some a_3 ∧ (hT h_1 a_3 = 113 ∧ (vp_in ((hI h_1 33 x0) - 1) (hN h_1 a_3) ∧ (∀ r_4 : Option Nat, r_4 = hB h_1 a_3 ((hI h_1 33 x0) - 1).toNatClampNeg → (∃ a_5 : Nat, r_4 = some a_5 ∧ (dp_Found_of cl a_5 [.int x1, .int x2] h_1 (gR (fun r_7 h_6 => Q (some (va_rf r_7)) h_6)) E)))))))))))
theorem wk_X4_found_69 {X : Ev} {G : GG} {cl : CT} {lm : Nat × Nat} {Q : QT} {E : ET} {h0 : HS} {d2 : Nat} (C : HC X G RX4 cX4_found (d2 + 1)) (hCl : CallsOK (ev_l X) G d2 cl ∧ hLm G lm ∧ 8 ≤ d2 ∧ LamsOK (ev_l X) G d2 cl) (S0 : HS0 X h0) (hret : (ev_h X).sig.returnType = (Option.some (Jvm.ClassFile.FieldType.object "GathersAllFaults$Found"))) (hXn : ev_n X = 4) (hini : True) (hTb : (ev_c X).exceptionTable.toList = []) : ∀ (x0 : Nat) (x1 : Int32) (x2 : Int32) (h : HS), wb_X4_found_69 cl lm Q E x0 x1 x2 h → GH X G h (hQ X G h0 Q E) 69 [(0, .ref x0), (1, .int x1), (2, .int x2)] [] := by
  have hlm := hCl.2.1
  have hd8 := hCl.2.2.1
  have hd2 : 1 ≤ d2 := Nat.le_trans (by decide) hd8
  have hLa := hCl.2.2.2
  have hd1 : 1 ≤ d2 + 1 := Nat.le_add_left _ _
  have hC9 := hCl
  replace hCl := hCl.1
  intro x0 x1 x2 h hw
  unfold wb_X4_found_69 at hw
  refine gk_aload_n (pc := 69) C.1 0 dX4_found_69 rfl rfl ?_
  refine gk_dup (pc := 70) C.1 dX4_found_70 rfl ?_
  obtain ⟨ht, hw⟩ := hw
  refine gf_X4_25 (pc := 71) C ht dX4_found_71 ?_
  refine gk_iconst (pc := 74) (v := 1) C.1 dX4_found_74 (by decide) ?_
  refine gk_iadd (pc := 75) C.1 dX4_found_75 ?_
  obtain ⟨ht, hw⟩ := hw
  refine gfp_X4_25 (pc := 76) C ht dX4_found_76 (fun h_1 eh_1 => ?_)
  replace hw := hw h_1 eh_1
  refine gk_aload_n (pc := 79) C.1 0 dX4_found_79 rfl rfl ?_
  obtain ⟨ht, hw⟩ := hw
  refine gf_X4_17 (pc := 80) C ht dX4_found_80 (fun r_2 er_2 => ?_)
  replace hw := hw r_2 er_2
  refine gk_aload_n (pc := 83) C.1 0 dX4_found_83 rfl rfl ?_
  obtain ⟨ht, hw⟩ := hw
  refine gf_X4_25 (pc := 84) C ht dX4_found_84 ?_
  refine gk_iconst (pc := 87) (v := 1) C.1 dX4_found_87 (by decide) ?_
  refine gk_isub (pc := 88) C.1 dX4_found_88 ?_
  obtain ⟨a_3, rfl, hw⟩ := hw
  obtain ⟨ht, hi, hw⟩ := hw
  refine gh_aald (pc := 89) (t0 := 5) (E := "GathersAllFaults$Found") C ht (by decide) (by decide) rfl hi dX4_found_89 ?_
  obtain ⟨r_4, er_4⟩ : ∃ z : Option Nat, z = hB h_1 a_3 ((hI h_1 33 x0) - 1).toNatClampNeg := ⟨_, rfl⟩
  rw [← er_4]
  replace hw := hw r_4 er_4
  refine gk_iload_n (pc := 90) C.1 1 dX4_found_90 rfl rfl ?_
  refine gk_iload_n (pc := 91) C.1 2 dX4_found_91 rfl rfl ?_
  obtain ⟨a_5, rfl, hw⟩ := hw
  refine gc_X4_42 (pc := 92) (As := [.int x1, .int x2]) (rest := []) C hCl (Nat.le_refl _) hw rfl rfl (Nat.le_of_ble_eq_true rfl) dX4_found_92 (fun v9 h_6 hp => ?_) (fun q_8 h_9 hw ht9 => ?_)
  rotate_left
  · exact gx_out C S0 (by rw [hTb]; decide) ht9 hw
  clear hw
  obtain ⟨r_7, rfl, hw⟩ := hp
  refine GK.at (p2 := 95) rfl ?_
  exact gh_aret (pc := 95) (r := r_7) C S0 hret (Or.inl ⟨_, rfl⟩) dX4_found_95 hw
def wb_X4_found_41 (cl : CT) (lm : Nat × Nat) (Q : QT) (E : ET) (x0 : Nat) (x1 : Int32) (x2 : Int32) (h : HS) : Prop := (hT h x0 = 10) ∧ (∀ r_1 : Option Nat, r_1 = hR h 32 x0 → ((hT h x0 = 10) ∧ (∃ a_2 : Nat, r_1 = some a_2 ∧ (hT h a_2 = 113 ∧ (vp_in (hI h 33 x0) (hN h a_2) ∧ (∀ r_3 : Option Nat, r_3 = hB h a_2 (hI h 33 x0).toNatClampNeg → ((r_3 = none → ((hT h x0 = 10) ∧ (∀ r_6 : Option Nat, r_6 = hR h 32 x0 → ((hT h x0 = 10) ∧ (hZ h + 1 ≤ lm.1 ∧ (hL h + 2 ≤ lm.2 ∧ (∀ (a_8 : Nat) (h_7 : HS), a_8 = hZ h → h_7 = hNew h 8 0 2 → (cl 218 (.ref a_8 :: []) h_7 (gV (fun h_9 => ∃ a_12 : Nat, r_6 = some a_12 ∧ (hT h_9 a_12 = 113 ∧ (vp_in (hI h 33 x0) (hN h_9 a_12) ∧ (as_X13 h_9 (some a_8) ∧ (∀ h_13 : HS, h_13 = sB h_9 a_12 (hI h 33 x0).toNatClampNeg (some a_8) → (wb_X4_found_69 cl lm Q E x0 x1 x2 h_13))))))) E)))))))) ∧ (∀ a_5 : Nat, r_3 = some a_5 → (wb_X4_found_69 cl lm Q E x0 x1 x2 h)))))))))
theorem wk_X4_found_41 {X : Ev} {G : GG} {cl : CT} {lm : Nat × Nat} {Q : QT} {E : ET} {h0 : HS} {d2 : Nat} (C : HC X G RX4 cX4_found (d2 + 1)) (hCl : CallsOK (ev_l X) G d2 cl ∧ hLm G lm ∧ 8 ≤ d2 ∧ LamsOK (ev_l X) G d2 cl) (S0 : HS0 X h0) (hret : (ev_h X).sig.returnType = (Option.some (Jvm.ClassFile.FieldType.object "GathersAllFaults$Found"))) (hXn : ev_n X = 4) (hini : True) (hTb : (ev_c X).exceptionTable.toList = []) : ∀ (x0 : Nat) (x1 : Int32) (x2 : Int32) (h : HS), wb_X4_found_41 cl lm Q E x0 x1 x2 h → GH X G h (hQ X G h0 Q E) 41 [(0, .ref x0), (1, .int x1), (2, .int x2)] [] := by
  have hlm := hCl.2.1
  have hd8 := hCl.2.2.1
  have hd2 : 1 ≤ d2 := Nat.le_trans (by decide) hd8
  have hLa := hCl.2.2.2
  have hd1 : 1 ≤ d2 + 1 := Nat.le_add_left _ _
  have hC9 := hCl
  replace hCl := hCl.1
  intro x0 x1 x2 h hw
  unfold wb_X4_found_41 at hw
  refine gk_aload_n (pc := 41) C.1 0 dX4_found_41 rfl rfl ?_
  obtain ⟨ht, hw⟩ := hw
  refine gf_X4_17 (pc := 42) C ht dX4_found_42 (fun r_1 er_1 => ?_)
  replace hw := hw r_1 er_1
  refine gk_aload_n (pc := 45) C.1 0 dX4_found_45 rfl rfl ?_
  obtain ⟨ht, hw⟩ := hw
  refine gf_X4_25 (pc := 46) C ht dX4_found_46 ?_
  obtain ⟨a_2, rfl, hw⟩ := hw
  obtain ⟨ht, hi, hw⟩ := hw
  refine gh_aald (pc := 49) (t0 := 5) (E := "GathersAllFaults$Found") C ht (by decide) (by decide) rfl hi dX4_found_49 ?_
  obtain ⟨r_3, er_3⟩ : ∃ z : Option Nat, z = hB h a_2 (hI h 33 x0).toNatClampNeg := ⟨_, rfl⟩
  rw [← er_3]
  replace hw := hw r_3 er_3
  refine gk_ifnonnull (pc := 50) (tgt := 69) C.1 dX4_found_50 (by decide) (fun c_4 => ?_) (fun c_4 => ?_)
  · obtain ⟨a_5, c_4⟩ := Option.ne_none_iff_exists'.mp c_4
    replace hw := hw.2 a_5 c_4
    subst c_4
    refine GK.sub (lv' := [(0, .ref x0), (1, .int x1), (2, .int x2)]) [0, 1, 2] rfl ?_
    exact wk_X4_found_69 C hC9 S0 hret hXn hini hTb  _ _ _ _ hw
  · replace hw := hw.1 c_4
    subst c_4
    refine gk_aload_n (pc := 53) C.1 0 dX4_found_53 rfl rfl ?_
    obtain ⟨ht, hw⟩ := hw
    refine gf_X4_17 (pc := 54) C ht dX4_found_54 (fun r_6 er_6 => ?_)
    replace hw := hw r_6 er_6
    refine gk_aload_n (pc := 57) C.1 0 dX4_found_57 rfl rfl ?_
    obtain ⟨ht, hw⟩ := hw
    refine gf_X4_25 (pc := 58) C ht dX4_found_58 ?_
    obtain ⟨hr1, hr2, hw⟩ := hw
    refine gn_X4_15 (pc := 61) C (hlm.1 ▸ hr1) (hlm.2 ▸ hr2) dX4_found_61 (fun h_7 eh_7 => ?_)
    obtain ⟨a_8, ea_8⟩ : ∃ z : Nat, z = hZ h := ⟨_, rfl⟩
    rw [← ea_8]
    replace hw := hw a_8 h_7 ea_8 eh_7
    refine gk_dup (pc := 64) C.1 dX4_found_64 rfl ?_
    refine gc_X4_41 (pc := 65) (As := []) (rest := [.ref a_8, .int (hI h 33 x0), va_rf r_6]) C hCl (Nat.le_refl _) hw rfl rfl (by simp [va_rf_S, va_rf_cat, cat_i, cat_a, cat_l, cat_f, fin4_0, fin4_1, fin4_2, fin4_3]) dX4_found_65 (fun v9 h_9 hp => ?_) (fun q_10 h_11 hw ht9 => ?_)
    rotate_left
    · exact gx_out C S0 (by rw [hTb]; decide) ht9 hw
    clear hw
    obtain ⟨rfl, hw⟩ := hp
    refine GK.at (p2 := 68) rfl ?_
    obtain ⟨a_12, rfl, hw⟩ := hw
    obtain ⟨ht, hi, hs, hw⟩ := hw
    refine gh_aast (pc := 68) (r := (some a_8)) (t0 := 5) (E := "GathersAllFaults$Found") C ht (by decide) (by decide) rfl (as_X13_ok hs) hi dX4_found_68 ?_
    obtain ⟨h_13, eh_13⟩ : ∃ z : HS, z = sB h_9 a_12 (hI h 33 x0).toNatClampNeg (some a_8) := ⟨_, rfl⟩
    rw [← eh_13]
    replace hw := hw h_13 eh_13
    refine GK.sub (lv' := [(0, .ref x0), (1, .int x1), (2, .int x2)]) [0, 1, 2] rfl ?_
    exact wk_X4_found_69 C hC9 S0 hret hXn hini hTb  _ _ _ _ hw
def wb_X4_found (cl : CT) (lm : Nat × Nat) (Q : QT) (E : ET) (x0 : Nat) (x1 : Int32) (x2 : Int32) (h : HS) : Prop := (hT h x0 = 10) ∧ ((hT h x0 = 10) ∧ (∀ r_1 : Option Nat, r_1 = hR h 32 x0 → (∃ a_2 : Nat, r_1 = some a_2 ∧ (hT h a_2 = 113 ∧ (((¬ (hI h 33 x0) = (nI (hN h a_2)) → (wb_X4_found_41 cl lm Q E x0 x1 x2 h)) ∧ ((hI h 33 x0) = (nI (hN h a_2)) → ((hT h x0 = 10) ∧ (¬ (2 * (hI h 33 x0)) < 0 ∧ ((2 * (hI h 33 x0)).toNatClampNeg * 4 ≤ 536870912 ∧ (hZ h + 1 ≤ lm.1 ∧ (hL h + (2 * (hI h 33 x0)).toNatClampNeg ≤ lm.2 ∧ (∀ (a_5 : Nat) (h_4 : HS), a_5 = hZ h → h_4 = hNew h 113 (2 * (hI h 33 x0)).toNatClampNeg (2 * (hI h 33 x0)).toNatClampNeg → ((hT h_4 x0 = 10) ∧ (∀ r_6 : Option Nat, r_6 = hR h_4 32 x0 → ((hT h_4 x0 = 10) ∧ (∃ a_7 : Nat, r_6 = some a_7 ∧ (hT h_4 a_7 = 113 ∧ (hT h_4 a_5 = 113 ∧ (¬ (0 : Int32) < 0 ∧ (¬ (0 : Int32) < 0 ∧ (¬ (hI h_4 33 x0) < 0 ∧ ((0 : Int32).toNatClampNeg + (hI h_4 33 x0).toNatClampNeg ≤ hN h_4 a_7 ∧ ((0 : Int32).toNatClampNeg + (hI h_4 33 x0).toNatClampNeg ≤ hN h_4 a_5 ∧ ((∀ i : Nat, i < (hI h_4 33 x0).toNatClampNeg → as_X13 h_4 (hB h_4 a_7 ((0 : Int32).toNatClampNeg + i))) ∧ (∀ h_8 : HS, h_8 = sCpy h_4 a_5 a_7 (0 : Int32).toNatClampNeg (0 : Int32).toNatClampNeg (hI h_4 33 x0).toNatClampNeg → ((hT h_8 x0 = 10) ∧ (∀ h_9 : HS, h_9 = sR h_8 32 x0 (some a_5) → (wb_X4_found_41 cl lm Q E x0 x1 x2 h_9)))))))))))))))))))))))))))))
theorem wx_X4_found {l : Launch} (hst : l.stackTraces = false) {G : GG} {cl : CT} {lm : Nat × Nat} {Q : QT} {E : ET} {d2 : Nat} (hCl : CallsOK l G d2 cl ∧ hLm G lm ∧ 8 ≤ d2 ∧ LamsOK l G d2 cl) {x0 : Nat} {x1 : Int32} {x2 : Int32} {h : HS} (hw : wb_X4_found cl lm Q E x0 x1 x2 h) : HMet l G yX4_found (ws_ yX4_found cX4_found 4 ((Option.some (Jvm.ClassFile.FieldType.object "GathersAllFaults$Found")))) (d2 + 1) [.ref x0, .int x1, .int x2] h Q E := by
  refine gh_met (own := RX4) rfl (by decide +kernel) hst (by simp only [lg_sl_i, lg_sl_r, lg_sl_a, lg_sl_2, lg_sl_f, lg_sl_0]; decide) (fun X hXl hXn hret hnm hTb h0 eh C S0 => ?_)
  subst hXl
  have hlm := hCl.2.1
  have hd8 := hCl.2.2.1
  have hd2 : 1 ≤ d2 := Nat.le_trans (by decide) hd8
  have hLa := hCl.2.2.2
  have hd1 : 1 ≤ d2 + 1 := Nat.le_add_left _ _
  have hC9 := hCl
  replace hCl := hCl.1
  have hini : True := trivial
  unfold wb_X4_found at hw
  refine GK.sub (lv' := [(0, .ref x0), (1, .int x1), (2, .int x2)]) [0, 1, 2] (by simp only [lv_args_i, lv_args_r, lv_args_a, lv_args_l, lv_args_f, lv_args_0]; rfl) ?_
  refine gk_aload_n (pc := 0) C.1 0 dX4_found_0 rfl rfl ?_
  obtain ⟨ht, hw⟩ := hw
  refine gf_X4_25 (pc := 1) C ht dX4_found_1 ?_
  refine gk_aload_n (pc := 4) C.1 0 dX4_found_4 rfl rfl ?_
  obtain ⟨ht, hw⟩ := hw
  refine gf_X4_17 (pc := 5) C ht dX4_found_5 (fun r_1 er_1 => ?_)
  replace hw := hw r_1 er_1
  obtain ⟨a_2, rfl, hw⟩ := hw
  obtain ⟨ht, hw⟩ := hw
  refine gh_len (pc := 8) (t0 := 5) (ty := tyA 113) C ht (by decide) rfl dX4_found_8 ?_
  refine gk_icmp_ne (pc := 9) (tgt := 41) C.1 dX4_found_9 (by decide) (fun c_3 => ?_) (fun c_3 => ?_)
  · replace hw := hw.1 c_3
    refine GK.sub (lv' := [(0, .ref x0), (1, .int x1), (2, .int x2)]) [0, 1, 2] rfl ?_
    exact wk_X4_found_41 C hC9 S0 hret hXn hini hTb  _ _ _ _ hw
  · replace hw := hw.2 c_3
    refine gk_iconst (pc := 12) (v := 2) C.1 dX4_found_12 (by decide) ?_
    refine gk_aload_n (pc := 13) C.1 0 dX4_found_13 rfl rfl ?_
    obtain ⟨ht, hw⟩ := hw
    refine gf_X4_25 (pc := 14) C ht dX4_found_14 ?_
    refine gk_imul (pc := 17) C.1 dX4_found_17 ?_
    obtain ⟨hn0, hby, hr1, hr2, hw⟩ := hw
    refine gh_anew (pc := 18) (t := 113) (t0 := 5) (E := "GathersAllFaults$Found") C ⟨by decide, by decide⟩ rfl q223 q224 hn0 hby (hlm.1 ▸ hr1) (hlm.2 ▸ hr2) dX4_found_18 ?_
    obtain ⟨h_4, eh_4⟩ : ∃ z : HS, z = hNew h 113 (2 * (hI h 33 x0)).toNatClampNeg (2 * (hI h 33 x0)).toNatClampNeg := ⟨_, rfl⟩
    rw [← eh_4]
    obtain ⟨a_5, ea_5⟩ : ∃ z : Nat, z = hZ h := ⟨_, rfl⟩
    rw [← ea_5]
    replace hw := hw a_5 h_4 ea_5 eh_4
    refine gk_astore_n (pc := 21) (lv' := [(3, Value.ref a_5), (0, Value.ref x0), (1, Value.int x1), (2, Value.int x2)]) C.1 dX4_found_21 rfl (by rw [hXn]; decide) (by first | rfl | simp [va_rf_S, va_rf_cat, cat_i, cat_a, cat_l, cat_f, fin4_0, fin4_1, fin4_2, fin4_3]) ?_
    refine gk_aload_n (pc := 22) C.1 1 dX4_found_22 rfl rfl ?_
    obtain ⟨ht, hw⟩ := hw
    refine gf_X4_17 (pc := 23) C ht dX4_found_23 (fun r_6 er_6 => ?_)
    replace hw := hw r_6 er_6
    refine gk_iconst (pc := 26) (v := 0) C.1 dX4_found_26 (by decide) ?_
    refine gk_aload_n (pc := 27) C.1 0 dX4_found_27 rfl rfl ?_
    refine gk_iconst (pc := 28) (v := 0) C.1 dX4_found_28 (by decide) ?_
    refine gk_aload_n (pc := 29) C.1 1 dX4_found_29 rfl rfl ?_
    obtain ⟨ht, hw⟩ := hw
    refine gf_X4_25 (pc := 30) C ht dX4_found_30 ?_
    obtain ⟨a_7, rfl, hw⟩ := hw
    obtain ⟨z1, z2, z3, z4, z5, z6, z7, z8, hw⟩ := hw
    refine gh_copy (pc := 33) (t0 := 5) (E := "GathersAllFaults$Found") C q1269 q1211 q1210 q171 z1 z2 (by decide) (by decide) rfl z3 z4 z5 z6 z7 (fun i hi y hy => as_X13_ok (z8 i hi) y hy) hd1 (Nat.le_of_ble_eq_true rfl) dX4_found_33 ?_
    obtain ⟨h_8, eh_8⟩ : ∃ z : HS, z = sCpy h_4 a_5 a_7 (0 : Int32).toNatClampNeg (0 : Int32).toNatClampNeg (hI h_4 33 x0).toNatClampNeg := ⟨_, rfl⟩
    rw [← eh_8]
    replace hw := hw h_8 eh_8
    refine gk_aload_n (pc := 36) C.1 1 dX4_found_36 rfl rfl ?_
    refine gk_aload_n (pc := 37) C.1 0 dX4_found_37 rfl rfl ?_
    obtain ⟨ht, hw⟩ := hw
    refine gfp_X4_17 (pc := 38) (r := (some a_5)) C ht dX4_found_38 (fun h_9 eh_9 => ?_)
    replace hw := hw h_9 eh_9
    refine GK.sub (lv' := [(0, .ref x0), (1, .int x1), (2, .int x2)]) [1, 2, 3] rfl ?_
    exact wk_X4_found_41 C hC9 S0 hret hXn hini hTb  _ _ _ _ hw
/-! 164: GathersAllFaults$Sink.<init>()V -/
def wb_X4_init (cl : CT) (lm : Nat × Nat) (Q : QT) (E : ET) (x0 : Nat) (h : HS) : Prop := ¬ (8 : Int32) < 0 ∧ ((8 : Int32).toNatClampNeg * 4 ≤ 536870912 ∧ (hZ h + 1 ≤ lm.1 ∧ (hL h + (8 : Int32).toNatClampNeg ≤ lm.2 ∧ (∀ (a_2 : Nat) (h_1 : HS), a_2 = hZ h → h_1 = hNew h 112 (8 : Int32).toNatClampNeg (8 : Int32).toNatClampNeg → ((hT h_1 x0 = 10) ∧ (∀ h_3 : HS, h_3 = sR h_1 30 x0 (some a_2) → (¬ (32 : Int32) < 0 ∧ ((32 : Int32).toNatClampNeg * 4 ≤ 536870912 ∧ (hZ h_3 + 1 ≤ lm.1 ∧ (hL h_3 + (32 : Int32).toNatClampNeg ≤ lm.2 ∧ (∀ (a_5 : Nat) (h_4 : HS), a_5 = hZ h_3 → h_4 = hNew h_3 113 (32 : Int32).toNatClampNeg (32 : Int32).toNatClampNeg → ((hT h_4 x0 = 10) ∧ (∀ h_6 : HS, h_6 = sR h_4 32 x0 (some a_5) → (Q none h_6))))))))))))))
theorem wx_X4_init {l : Launch} (hst : l.stackTraces = false) {G : GG} {cl : CT} {lm : Nat × Nat} {Q : QT} {E : ET} {d2 : Nat} (hCl : CallsOK l G d2 cl ∧ hLm G lm ∧ 8 ≤ d2 ∧ LamsOK l G d2 cl) {x0 : Nat} {h : HS} (hw : wb_X4_init cl lm Q E x0 h) : HMet l G yX4_init (ws_ yX4_init cX4_init 1 ((Option.none : Option Jvm.ClassFile.FieldType))) (d2 + 1) [.ref x0] h Q E := by
  refine gh_met (own := RX4) rfl (by decide +kernel) hst (by simp only [lg_sl_i, lg_sl_r, lg_sl_a, lg_sl_2, lg_sl_f, lg_sl_0]; decide) (fun X hXl hXn hret hnm hTb h0 eh C S0 => ?_)
  subst hXl
  have hlm := hCl.2.1
  have hd8 := hCl.2.2.1
  have hd2 : 1 ≤ d2 := Nat.le_trans (by decide) hd8
  have hLa := hCl.2.2.2
  have hd1 : 1 ≤ d2 + 1 := Nat.le_add_left _ _
  have hC9 := hCl
  replace hCl := hCl.1
  have hini : (ev_h X).name = "<init>" := hnm.1
  unfold wb_X4_init at hw
  refine GK.sub (lv' := [(0, .ref x0)]) [0] (by simp only [lv_args_i, lv_args_r, lv_args_a, lv_args_l, lv_args_f, lv_args_0]; rfl) ?_
  refine gk_aload_n (pc := 0) C.1 0 dX4_init_0 rfl rfl ?_
  refine gh_obj (pc := 1) C hd1 q220 (Nat.le_of_ble_eq_true rfl) dX4_init_1 ?_
  refine gk_aload_n (pc := 4) C.1 0 dX4_init_4 rfl rfl ?_
  refine gk_bipush (pc := 5) (v := 8) C.1 dX4_init_5 (by decide) ?_
  obtain ⟨hn0, hby, hr1, hr2, hw⟩ := hw
  refine gh_anew (pc := 7) (t := 112) (t0 := 4) (E := "GathersAllFaults$Finding") C ⟨by decide, by decide⟩ rfl q221 q222 hn0 hby (hlm.1 ▸ hr1) (hlm.2 ▸ hr2) dX4_init_7 ?_
  obtain ⟨h_1, eh_1⟩ : ∃ z : HS, z = hNew h 112 (8 : Int32).toNatClampNeg (8 : Int32).toNatClampNeg := ⟨_, rfl⟩
  rw [← eh_1]
  obtain ⟨a_2, ea_2⟩ : ∃ z : Nat, z = hZ h := ⟨_, rfl⟩
  rw [← ea_2]
  replace hw := hw a_2 h_1 ea_2 eh_1
  obtain ⟨ht, hw⟩ := hw
  refine gfp_X4_9 (pc := 10) (r := (some a_2)) C ht dX4_init_10 (fun h_3 eh_3 => ?_)
  replace hw := hw h_3 eh_3
  refine gk_aload_n (pc := 13) C.1 0 dX4_init_13 rfl rfl ?_
  refine gk_bipush (pc := 14) (v := 32) C.1 dX4_init_14 (by decide) ?_
  obtain ⟨hn0, hby, hr1, hr2, hw⟩ := hw
  refine gh_anew (pc := 16) (t := 113) (t0 := 5) (E := "GathersAllFaults$Found") C ⟨by decide, by decide⟩ rfl q223 q224 hn0 hby (hlm.1 ▸ hr1) (hlm.2 ▸ hr2) dX4_init_16 ?_
  obtain ⟨h_4, eh_4⟩ : ∃ z : HS, z = hNew h_3 113 (32 : Int32).toNatClampNeg (32 : Int32).toNatClampNeg := ⟨_, rfl⟩
  rw [← eh_4]
  obtain ⟨a_5, ea_5⟩ : ∃ z : Nat, z = hZ h_3 := ⟨_, rfl⟩
  rw [← ea_5]
  replace hw := hw a_5 h_4 ea_5 eh_4
  obtain ⟨ht, hw⟩ := hw
  refine gfp_X4_17 (pc := 19) (r := (some a_5)) C ht dX4_init_19 (fun h_6 eh_6 => ?_)
  replace hw := hw h_6 eh_6
  exact gh_vret (pc := 22) C S0 hret dX4_init_22 hw
/-! 165: GathersAllFaults$Nothing.equals(Ljava/lang/Object;)Z -/
def wb_X5_equals (cl : CT) (lm : Nat × Nat) (Q : QT) (E : ET) (x0 : Nat) (x1 : Option Nat) (h : HS) : Prop := (∃ a_1 : Nat, x1 = some a_1 ∧ ((hT h a_1 = 3) ∧ (Q (some (.int 1)) h))) ∨ ((∀ a_1 : Nat, x1 = some a_1 → (hT h a_1 = 2 ∨ hT h a_1 = 4 ∨ hT h a_1 = 5 ∨ hT h a_1 = 300)) ∧ (Q (some (.int 0)) h))
theorem wx_X5_equals {l : Launch} (hst : l.stackTraces = false) {G : GG} {cl : CT} {lm : Nat × Nat} {Q : QT} {E : ET} {d2 : Nat} (hCl : CallsOK l G d2 cl ∧ hLm G lm ∧ 8 ≤ d2 ∧ LamsOK l G d2 cl) {x0 : Nat} {x1 : Option Nat} {h : HS} (hw : wb_X5_equals cl lm Q E x0 x1 h) : HMet l G yX5_equals (ws_ yX5_equals cX5_equals 2 ((Option.some Jvm.ClassFile.FieldType.boolean))) (d2 + 1) [.ref x0, va_rf x1] h Q E := by
  refine gh_met (own := RX5) rfl (by decide +kernel) hst (by simp only [lg_sl_i, lg_sl_r, lg_sl_a, lg_sl_2, lg_sl_f, lg_sl_0]; decide) (fun X hXl hXn hret hnm hTb h0 eh C S0 => ?_)
  subst hXl
  have hlm := hCl.2.1
  have hd8 := hCl.2.2.1
  have hd2 : 1 ≤ d2 := Nat.le_trans (by decide) hd8
  have hLa := hCl.2.2.2
  have hd1 : 1 ≤ d2 + 1 := Nat.le_add_left _ _
  have hC9 := hCl
  replace hCl := hCl.1
  have hini : True := trivial
  unfold wb_X5_equals at hw
  refine GK.sub (lv' := [(0, .ref x0), (1, va_rf x1)]) [0, 1] (by simp only [lv_args_i, lv_args_r, lv_args_a, lv_args_l, lv_args_f, lv_args_0]; rfl) ?_
  refine gk_qload_n (pc := 0) C.1 1 dX5_equals_0 rfl rfl ?_
  rcases hw with ⟨a_1, rfl, hs, hw⟩ | ⟨hs, hw⟩
  · skip
    refine gi_X5_7_y (pc := 1) C hs dX5_equals_1 ?_
    exact gh_zret (pc := 4) C S0 hret dX5_equals_4 bz1 hw
  · refine gi_X5_7_n (pc := 1) (r := x1) C hs dX5_equals_1 ?_
    exact gh_zret (pc := 4) C S0 hret dX5_equals_4 bz0 hw
/-! 166: GathersAllFaults$Nothing.hashCode()I -/
def wb_X5_hashCode (cl : CT) (lm : Nat × Nat) (Q : QT) (E : ET) (x0 : Nat) (h : HS) : Prop := Q (some (.int 5)) h
theorem wx_X5_hashCode {l : Launch} (hst : l.stackTraces = false) {G : GG} {cl : CT} {lm : Nat × Nat} {Q : QT} {E : ET} {d2 : Nat} (hCl : CallsOK l G d2 cl ∧ hLm G lm ∧ 8 ≤ d2 ∧ LamsOK l G d2 cl) {x0 : Nat} {h : HS} (hw : wb_X5_hashCode cl lm Q E x0 h) : HMet l G yX5_hashCode (ws_ yX5_hashCode cX5_hashCode 1 ((Option.some Jvm.ClassFile.FieldType.int))) (d2 + 1) [.ref x0] h Q E := by
  refine gh_met (own := RX5) rfl (by decide +kernel) hst (by simp only [lg_sl_i, lg_sl_r, lg_sl_a, lg_sl_2, lg_sl_f, lg_sl_0]; decide) (fun X hXl hXn hret hnm hTb h0 eh C S0 => ?_)
  subst hXl
  have hlm := hCl.2.1
  have hd8 := hCl.2.2.1
  have hd2 : 1 ≤ d2 := Nat.le_trans (by decide) hd8
  have hLa := hCl.2.2.2
  have hd1 : 1 ≤ d2 + 1 := Nat.le_add_left _ _
  have hC9 := hCl
  replace hCl := hCl.1
  have hini : True := trivial
  unfold wb_X5_hashCode at hw
  refine GK.sub (lv' := [(0, .ref x0)]) [0] (by simp only [lv_args_i, lv_args_r, lv_args_a, lv_args_l, lv_args_f, lv_args_0]; rfl) ?_
  refine gk_iconst (pc := 0) (v := 5) C.1 dX5_hashCode_0 (by decide) ?_
  exact gh_iret (pc := 1) C S0 hret dX5_hashCode_1 hw
/-! 167: GathersAllFaults$Nothing.<init>()V -/
def wb_X5_init (cl : CT) (lm : Nat × Nat) (Q : QT) (E : ET) (x0 : Nat) (h : HS) : Prop := cl 144 (.ref x0 :: []) h (gV (fun h_1 => Q none h_1)) E
theorem wx_X5_init {l : Launch} (hst : l.stackTraces = false) {G : GG} {cl : CT} {lm : Nat × Nat} {Q : QT} {E : ET} {d2 : Nat} (hCl : CallsOK l G d2 cl ∧ hLm G lm ∧ 8 ≤ d2 ∧ LamsOK l G d2 cl) {x0 : Nat} {h : HS} (hw : wb_X5_init cl lm Q E x0 h) : HMet l G yX5_init (ws_ yX5_init cX5_init 1 ((Option.none : Option Jvm.ClassFile.FieldType))) (d2 + 1) [.ref x0] h Q E := by
  refine gh_met (own := RX5) rfl (by decide +kernel) hst (by simp only [lg_sl_i, lg_sl_r, lg_sl_a, lg_sl_2, lg_sl_f, lg_sl_0]; decide) (fun X hXl hXn hret hnm hTb h0 eh C S0 => ?_)
  subst hXl
  have hlm := hCl.2.1
  have hd8 := hCl.2.2.1
  have hd2 : 1 ≤ d2 := Nat.le_trans (by decide) hd8
  have hLa := hCl.2.2.2
  have hd1 : 1 ≤ d2 + 1 := Nat.le_add_left _ _
  have hC9 := hCl
  replace hCl := hCl.1
  have hini : (ev_h X).name = "<init>" := hnm.1
  unfold wb_X5_init at hw
  refine GK.sub (lv' := [(0, .ref x0)]) [0] (by simp only [lv_args_i, lv_args_r, lv_args_a, lv_args_l, lv_args_f, lv_args_0]; rfl) ?_
  refine gk_aload_n (pc := 0) C.1 0 dX5_init_0 rfl rfl ?_
  refine gc_X5_1 (pc := 1) (As := []) (rest := []) C hCl (Nat.le_refl _) hw rfl rfl (Nat.le_of_ble_eq_true rfl) dX5_init_1 (fun v9 h_1 hp => ?_) (fun q_2 h_3 hw ht9 => ?_)
  rotate_left
  · exact gx_out C S0 (by rw [hTb]; decide) ht9 hw
  clear hw
  obtain ⟨rfl, hw⟩ := hp
  refine GK.at (p2 := 4) rfl ?_
  exact gh_vret (pc := 4) C S0 hret dX5_init_4 hw
/-! 168: GathersAllFaults$Nothing.kind()I -/
def wb_X5_kind (cl : CT) (lm : Nat × Nat) (Q : QT) (E : ET) (x0 : Nat) (h : HS) : Prop := Q (some (.int 1)) h
theorem wx_X5_kind {l : Launch} (hst : l.stackTraces = false) {G : GG} {cl : CT} {lm : Nat × Nat} {Q : QT} {E : ET} {d2 : Nat} (hCl : CallsOK l G d2 cl ∧ hLm G lm ∧ 8 ≤ d2 ∧ LamsOK l G d2 cl) {x0 : Nat} {h : HS} (hw : wb_X5_kind cl lm Q E x0 h) : HMet l G yX5_kind (ws_ yX5_kind cX5_kind 1 ((Option.some Jvm.ClassFile.FieldType.int))) (d2 + 1) [.ref x0] h Q E := by
  refine gh_met (own := RX5) rfl (by decide +kernel) hst (by simp only [lg_sl_i, lg_sl_r, lg_sl_a, lg_sl_2, lg_sl_f, lg_sl_0]; decide) (fun X hXl hXn hret hnm hTb h0 eh C S0 => ?_)
  subst hXl
  have hlm := hCl.2.1
  have hd8 := hCl.2.2.1
  have hd2 : 1 ≤ d2 := Nat.le_trans (by decide) hd8
  have hLa := hCl.2.2.2
  have hd1 : 1 ≤ d2 + 1 := Nat.le_add_left _ _
  have hC9 := hCl
  replace hCl := hCl.1
  have hini : True := trivial
  unfold wb_X5_kind at hw
  refine GK.sub (lv' := [(0, .ref x0)]) [0] (by simp only [lv_args_i, lv_args_r, lv_args_a, lv_args_l, lv_args_f, lv_args_0]; rfl) ?_
  refine gk_iconst (pc := 0) (v := 1) C.1 dX5_kind_0 (by decide) ?_
  exact gh_iret (pc := 1) C S0 hret dX5_kind_1 hw
/-! 169: GathersAllFaults$Nothing.lay(LGathersAllFaults$Row;I)V -/
def wb_X5_lay (cl : CT) (lm : Nat × Nat) (Q : QT) (E : ET) (x0 : Nat) (x1 : Option Nat) (x2 : Int32) (h : HS) : Prop := Q none h
theorem wx_X5_lay {l : Launch} (hst : l.stackTraces = false) {G : GG} {cl : CT} {lm : Nat × Nat} {Q : QT} {E : ET} {d2 : Nat} (hCl : CallsOK l G d2 cl ∧ hLm G lm ∧ 8 ≤ d2 ∧ LamsOK l G d2 cl) {x0 : Nat} {x1 : Option Nat} {x2 : Int32} {h : HS} (hw : wb_X5_lay cl lm Q E x0 x1 x2 h) : HMet l G yX5_lay (ws_ yX5_lay cX5_lay 3 ((Option.none : Option Jvm.ClassFile.FieldType))) (d2 + 1) [.ref x0, va_rf x1, .int x2] h Q E := by
  refine gh_met (own := RX5) rfl (by decide +kernel) hst (by simp only [lg_sl_i, lg_sl_r, lg_sl_a, lg_sl_2, lg_sl_f, lg_sl_0]; decide) (fun X hXl hXn hret hnm hTb h0 eh C S0 => ?_)
  subst hXl
  have hlm := hCl.2.1
  have hd8 := hCl.2.2.1
  have hd2 : 1 ≤ d2 := Nat.le_trans (by decide) hd8
  have hLa := hCl.2.2.2
  have hd1 : 1 ≤ d2 + 1 := Nat.le_add_left _ _
  have hC9 := hCl
  replace hCl := hCl.1
  have hini : True := trivial
  unfold wb_X5_lay at hw
  refine GK.sub (lv' := [(0, .ref x0), (1, va_rf x1), (2, .int x2)]) [0, 1, 2] (by simp only [lv_args_i, lv_args_r, lv_args_a, lv_args_l, lv_args_f, lv_args_0]; rfl) ?_
  exact gh_vret (pc := 0) C S0 hret dX5_lay_0 hw
/-! 170: GathersAllFaults$Nothing.many()I -/
def wb_X5_many (cl : CT) (lm : Nat × Nat) (Q : QT) (E : ET) (x0 : Nat) (h : HS) : Prop := Q (some (.int 0)) h
theorem wx_X5_many {l : Launch} (hst : l.stackTraces = false) {G : GG} {cl : CT} {lm : Nat × Nat} {Q : QT} {E : ET} {d2 : Nat} (hCl : CallsOK l G d2 cl ∧ hLm G lm ∧ 8 ≤ d2 ∧ LamsOK l G d2 cl) {x0 : Nat} {h : HS} (hw : wb_X5_many cl lm Q E x0 h) : HMet l G yX5_many (ws_ yX5_many cX5_many 1 ((Option.some Jvm.ClassFile.FieldType.int))) (d2 + 1) [.ref x0] h Q E := by
  refine gh_met (own := RX5) rfl (by decide +kernel) hst (by simp only [lg_sl_i, lg_sl_r, lg_sl_a, lg_sl_2, lg_sl_f, lg_sl_0]; decide) (fun X hXl hXn hret hnm hTb h0 eh C S0 => ?_)
  subst hXl
  have hlm := hCl.2.1
  have hd8 := hCl.2.2.1
  have hd2 : 1 ≤ d2 := Nat.le_trans (by decide) hd8
  have hLa := hCl.2.2.2
  have hd1 : 1 ≤ d2 + 1 := Nat.le_add_left _ _
  have hC9 := hCl
  replace hCl := hCl.1
  have hini : True := trivial
  unfold wb_X5_many at hw
  refine GK.sub (lv' := [(0, .ref x0)]) [0] (by simp only [lv_args_i, lv_args_r, lv_args_a, lv_args_l, lv_args_f, lv_args_0]; rfl) ?_
  refine gk_iconst (pc := 0) (v := 0) C.1 dX5_many_0 (by decide) ?_
  exact gh_iret (pc := 1) C S0 hret dX5_many_1 hw
/-! 171: GathersAllFaults$Nothing.size()I -/
def wb_X5_size (cl : CT) (lm : Nat × Nat) (Q : QT) (E : ET) (x0 : Nat) (h : HS) : Prop := Q (some (.int 1)) h
theorem wx_X5_size {l : Launch} (hst : l.stackTraces = false) {G : GG} {cl : CT} {lm : Nat × Nat} {Q : QT} {E : ET} {d2 : Nat} (hCl : CallsOK l G d2 cl ∧ hLm G lm ∧ 8 ≤ d2 ∧ LamsOK l G d2 cl) {x0 : Nat} {h : HS} (hw : wb_X5_size cl lm Q E x0 h) : HMet l G yX5_size (ws_ yX5_size cX5_size 1 ((Option.some Jvm.ClassFile.FieldType.int))) (d2 + 1) [.ref x0] h Q E := by
  refine gh_met (own := RX5) rfl (by decide +kernel) hst (by simp only [lg_sl_i, lg_sl_r, lg_sl_a, lg_sl_2, lg_sl_f, lg_sl_0]; decide) (fun X hXl hXn hret hnm hTb h0 eh C S0 => ?_)
  subst hXl
  have hlm := hCl.2.1
  have hd8 := hCl.2.2.1
  have hd2 : 1 ≤ d2 := Nat.le_trans (by decide) hd8
  have hLa := hCl.2.2.2
  have hd1 : 1 ≤ d2 + 1 := Nat.le_add_left _ _
  have hC9 := hCl
  replace hCl := hCl.1
  have hini : True := trivial
  unfold wb_X5_size at hw
  refine GK.sub (lv' := [(0, .ref x0)]) [0] (by simp only [lv_args_i, lv_args_r, lv_args_a, lv_args_l, lv_args_f, lv_args_0]; rfl) ?_
  refine gk_iconst (pc := 0) (v := 1) C.1 dX5_size_0 (by decide) ?_
  exact gh_iret (pc := 1) C S0 hret dX5_size_1 hw
/-! 172: GathersAllFaults$Nothing.step(I)LGathersAllFaults$Value; -/
def wb_X5_step (cl : CT) (lm : Nat × Nat) (Q : QT) (E : ET) (x0 : Nat) (x1 : Int32) (h : HS) : Prop := Q (some (va_rf none)) h
theorem wx_X5_step {l : Launch} (hst : l.stackTraces = false) {G : GG} {cl : CT} {lm : Nat × Nat} {Q : QT} {E : ET} {d2 : Nat} (hCl : CallsOK l G d2 cl ∧ hLm G lm ∧ 8 ≤ d2 ∧ LamsOK l G d2 cl) {x0 : Nat} {x1 : Int32} {h : HS} (hw : wb_X5_step cl lm Q E x0 x1 h) : HMet l G yX5_step (ws_ yX5_step cX5_step 2 ((Option.some (Jvm.ClassFile.FieldType.object "GathersAllFaults$Value")))) (d2 + 1) [.ref x0, .int x1] h Q E := by
  refine gh_met (own := RX5) rfl (by decide +kernel) hst (by simp only [lg_sl_i, lg_sl_r, lg_sl_a, lg_sl_2, lg_sl_f, lg_sl_0]; decide) (fun X hXl hXn hret hnm hTb h0 eh C S0 => ?_)
  subst hXl
  have hlm := hCl.2.1
  have hd8 := hCl.2.2.1
  have hd2 : 1 ≤ d2 := Nat.le_trans (by decide) hd8
  have hLa := hCl.2.2.2
  have hd1 : 1 ≤ d2 + 1 := Nat.le_add_left _ _
  have hC9 := hCl
  replace hCl := hCl.1
  have hini : True := trivial
  unfold wb_X5_step at hw
  refine GK.sub (lv' := [(0, .ref x0), (1, .int x1)]) [0, 1] (by simp only [lv_args_i, lv_args_r, lv_args_a, lv_args_l, lv_args_f, lv_args_0]; rfl) ?_
  refine gk_null (pc := 0) C.1 dX5_step_0 ?_
  exact gh_aret (pc := 1) (r := none) C S0 hret (Or.inl ⟨_, rfl⟩) dX5_step_1 hw
/-! 173: GathersAllFaults$Nothing.total()I -/
def wb_X5_total (cl : CT) (lm : Nat × Nat) (Q : QT) (E : ET) (x0 : Nat) (h : HS) : Prop := Q (some (.int 0)) h
theorem wx_X5_total {l : Launch} (hst : l.stackTraces = false) {G : GG} {cl : CT} {lm : Nat × Nat} {Q : QT} {E : ET} {d2 : Nat} (hCl : CallsOK l G d2 cl ∧ hLm G lm ∧ 8 ≤ d2 ∧ LamsOK l G d2 cl) {x0 : Nat} {h : HS} (hw : wb_X5_total cl lm Q E x0 h) : HMet l G yX5_total (ws_ yX5_total cX5_total 1 ((Option.some Jvm.ClassFile.FieldType.int))) (d2 + 1) [.ref x0] h Q E := by
  refine gh_met (own := RX5) rfl (by decide +kernel) hst (by simp only [lg_sl_i, lg_sl_r, lg_sl_a, lg_sl_2, lg_sl_f, lg_sl_0]; decide) (fun X hXl hXn hret hnm hTb h0 eh C S0 => ?_)
  subst hXl
  have hlm := hCl.2.1
  have hd8 := hCl.2.2.1
  have hd2 : 1 ≤ d2 := Nat.le_trans (by decide) hd8
  have hLa := hCl.2.2.2
  have hd1 : 1 ≤ d2 + 1 := Nat.le_add_left _ _
  have hC9 := hCl
  replace hCl := hCl.1
  have hini : True := trivial
  unfold wb_X5_total at hw
  refine GK.sub (lv' := [(0, .ref x0)]) [0] (by simp only [lv_args_i, lv_args_r, lv_args_a, lv_args_l, lv_args_f, lv_args_0]; rfl) ?_
  refine gk_iconst (pc := 0) (v := 0) C.1 dX5_total_0 (by decide) ?_
  exact gh_iret (pc := 1) C S0 hret dX5_total_1 hw
/-! 174: GathersAllFaults$Nothing.with(ILGathersAllFaults$Value;)LGathersAllFaults$Value; -/
def wb_X5_with (cl : CT) (lm : Nat × Nat) (Q : QT) (E : ET) (x0 : Nat) (x1 : Int32) (x2 : Option Nat) (h : HS) : Prop := Q (some (va_rf (some x0))) h
theorem wx_X5_with {l : Launch} (hst : l.stackTraces = false) {G : GG} {cl : CT} {lm : Nat × Nat} {Q : QT} {E : ET} {d2 : Nat} (hCl : CallsOK l G d2 cl ∧ hLm G lm ∧ 8 ≤ d2 ∧ LamsOK l G d2 cl) {x0 : Nat} {x1 : Int32} {x2 : Option Nat} {h : HS} (hw : wb_X5_with cl lm Q E x0 x1 x2 h) : HMet l G yX5_with (ws_ yX5_with cX5_with 3 ((Option.some (Jvm.ClassFile.FieldType.object "GathersAllFaults$Value")))) (d2 + 1) [.ref x0, .int x1, va_rf x2] h Q E := by
  refine gh_met (own := RX5) rfl (by decide +kernel) hst (by simp only [lg_sl_i, lg_sl_r, lg_sl_a, lg_sl_2, lg_sl_f, lg_sl_0]; decide) (fun X hXl hXn hret hnm hTb h0 eh C S0 => ?_)
  subst hXl
  have hlm := hCl.2.1
  have hd8 := hCl.2.2.1
  have hd2 : 1 ≤ d2 := Nat.le_trans (by decide) hd8
  have hLa := hCl.2.2.2
  have hd1 : 1 ≤ d2 + 1 := Nat.le_add_left _ _
  have hC9 := hCl
  replace hCl := hCl.1
  have hini : True := trivial
  unfold wb_X5_with at hw
  refine GK.sub (lv' := [(0, .ref x0), (1, .int x1), (2, va_rf x2)]) [0, 1, 2] (by simp only [lv_args_i, lv_args_r, lv_args_a, lv_args_l, lv_args_f, lv_args_0]; rfl) ?_
  refine gk_aload_n (pc := 0) C.1 0 dX5_with_0 rfl rfl ?_
  exact gh_aret (pc := 1) (r := (some x0)) C S0 hret (Or.inl ⟨_, rfl⟩) dX5_with_1 hw
/-! 175: GathersAllFaults$Refused.<init>(I)V -/
def wb_X8_init (cl : CT) (lm : Nat × Nat) (Q : QT) (E : ET) (x0 : Nat) (x1 : Int32) (h : HS) : Prop := hT h x0 = 16 ∧ (hI h 98 x0 = 0 ∧ (∀ h_1 : HS, h_1 = sI h 98 x0 1 → ((hT h_1 x0 = 16) ∧ (hI h_1 98 x0 = 1 ∧ (∀ h_2 : HS, h_2 = sI h_1 55 x0 x1 → (Q none h_2))))))
theorem wx_X8_init {l : Launch} (hst : l.stackTraces = false) {G : GG} {cl : CT} {lm : Nat × Nat} {Q : QT} {E : ET} {d2 : Nat} (hCl : CallsOK l G d2 cl ∧ hLm G lm ∧ 8 ≤ d2 ∧ LamsOK l G d2 cl) {x0 : Nat} {x1 : Int32} {h : HS} (hw : wb_X8_init cl lm Q E x0 x1 h) : HMet l G yX8_init (ws_ yX8_init cX8_init 2 ((Option.none : Option Jvm.ClassFile.FieldType))) (d2 + 1) [.ref x0, .int x1] h Q E := by
  refine gh_met (own := RX8) rfl (by decide +kernel) hst (by simp only [lg_sl_i, lg_sl_r, lg_sl_a, lg_sl_2, lg_sl_f, lg_sl_0]; decide) (fun X hXl hXn hret hnm hTb h0 eh C S0 => ?_)
  subst hXl
  have hlm := hCl.2.1
  have hd8 := hCl.2.2.1
  have hd2 : 1 ≤ d2 := Nat.le_trans (by decide) hd8
  have hLa := hCl.2.2.2
  have hd1 : 1 ≤ d2 + 1 := Nat.le_add_left _ _
  have hC9 := hCl
  replace hCl := hCl.1
  have hini : (ev_h X).name = "<init>" := hnm.1
  unfold wb_X8_init at hw
  refine GK.sub (lv' := [(0, .ref x0), (1, .int x1)]) [0, 1] (by simp only [lv_args_i, lv_args_r, lv_args_a, lv_args_l, lv_args_f, lv_args_0]; rfl) ?_
  refine gk_aload_n (pc := 0) C.1 0 dX8_init_0 rfl rfl ?_
  obtain ⟨ht, hfr, hw⟩ := hw
  refine gh_supX8 C ht hfr hd8 (Nat.le_of_ble_eq_true rfl) dX8_init_1 (fun h_1 eh_1 => ?_)
  replace hw := hw h_1 eh_1
  refine gk_aload_n (pc := 4) C.1 0 dX8_init_4 rfl rfl ?_
  refine gk_iload_n (pc := 5) C.1 1 dX8_init_5 rfl rfl ?_
  obtain ⟨ht, hw⟩ := hw
  obtain ⟨hfr, hw⟩ := hw
  refine gfp_X8_7 (pc := 6) C hini hfr ht dX8_init_6 (fun h_2 eh_2 => ?_)
  replace hw := hw h_2 eh_2
  exact gh_vret (pc := 9) C S0 hret dX8_init_9 hw
/-! 176: GathersAllFaults$Refused.number()I -/
def wb_X8_number (cl : CT) (lm : Nat × Nat) (Q : QT) (E : ET) (x0 : Nat) (h : HS) : Prop := (hT h x0 = 16) ∧ (Q (some (.int (hI h 55 x0))) h)
theorem wx_X8_number {l : Launch} (hst : l.stackTraces = false) {G : GG} {cl : CT} {lm : Nat × Nat} {Q : QT} {E : ET} {d2 : Nat} (hCl : CallsOK l G d2 cl ∧ hLm G lm ∧ 8 ≤ d2 ∧ LamsOK l G d2 cl) {x0 : Nat} {h : HS} (hw : wb_X8_number cl lm Q E x0 h) : HMet l G yX8_number (ws_ yX8_number cX8_number 1 ((Option.some Jvm.ClassFile.FieldType.int))) (d2 + 1) [.ref x0] h Q E := by
  refine gh_met (own := RX8) rfl (by decide +kernel) hst (by simp only [lg_sl_i, lg_sl_r, lg_sl_a, lg_sl_2, lg_sl_f, lg_sl_0]; decide) (fun X hXl hXn hret hnm hTb h0 eh C S0 => ?_)
  subst hXl
  have hlm := hCl.2.1
  have hd8 := hCl.2.2.1
  have hd2 : 1 ≤ d2 := Nat.le_trans (by decide) hd8
  have hLa := hCl.2.2.2
  have hd1 : 1 ≤ d2 + 1 := Nat.le_add_left _ _
  have hC9 := hCl
  replace hCl := hCl.1
  have hini : True := trivial
  unfold wb_X8_number at hw
  refine GK.sub (lv' := [(0, .ref x0)]) [0] (by simp only [lv_args_i, lv_args_r, lv_args_a, lv_args_l, lv_args_f, lv_args_0]; rfl) ?_
  refine gk_aload_n (pc := 0) C.1 0 dX8_number_0 rfl rfl ?_
  obtain ⟨ht, hw⟩ := hw
  refine gf_X8_7 (pc := 1) C ht dX8_number_1 ?_
  exact gh_iret (pc := 4) C S0 hret dX8_number_4 hw
/-! 177: GathersAllFaults$Reader.check(LGathersAllFaults$Compiled;Z)LGathersAllFaults$Look; -/
def wb_X9_check_225 (cl : CT) (lm : Nat × Nat) (Q : QT) (E : ET) (x3 : Int32) (x5 : Int32) (x6 : Int32) (s0 : Nat) (s1 : Int32) (h : HS) : Prop := dp_Reader_wrong cl s0 [.int s1, .int x3] h (gV (fun h_1 => cl 106 [.int x5, .int x6] h_1 (gR (fun r_5 h_4 => Q (some (va_rf r_5)) h_4)) E)) E
theorem wk_X9_check_225 {X : Ev} {G : GG} {cl : CT} {lm : Nat × Nat} {Q : QT} {E : ET} {h0 : HS} {d2 : Nat} (C : HC X G RX9 cX9_check (d2 + 1)) (hCl : CallsOK (ev_l X) G d2 cl ∧ hLm G lm ∧ 8 ≤ d2 ∧ LamsOK (ev_l X) G d2 cl) (S0 : HS0 X h0) (hret : (ev_h X).sig.returnType = (Option.some (Jvm.ClassFile.FieldType.object "GathersAllFaults$Look"))) (hXn : ev_n X = 10) (hini : (ev_s X).methodNamed? yX9_check = some (ev_m X)) (hTb : (ev_c X).exceptionTable.toList = []) : ∀ (x3 : Int32) (x5 : Int32) (x6 : Int32) (s0 : Nat) (s1 : Int32) (h : HS), wb_X9_check_225 cl lm Q E x3 x5 x6 s0 s1 h → GH X G h (hQ X G h0 Q E) 225 [(3, .int x3), (5, .int x5), (6, .int x6)] [.int s1, .ref s0] := by
  have hlm := hCl.2.1
  have hd8 := hCl.2.2.1
  have hd2 : 1 ≤ d2 := Nat.le_trans (by decide) hd8
  have hLa := hCl.2.2.2
  have hd1 : 1 ≤ d2 + 1 := Nat.le_add_left _ _
  have hC9 := hCl
  replace hCl := hCl.1
  intro x3 x5 x6 s0 s1 h hw
  unfold wb_X9_check_225 at hw
  refine gk_iload_n (pc := 225) C.1 0 dX9_check_225 rfl rfl ?_
  refine gc_X9_63 (pc := 226) (As := [.int s1, .int x3]) (rest := []) C hCl (Nat.le_refl _) hw rfl rfl (Nat.le_of_ble_eq_true rfl) dX9_check_226 (fun v9 h_1 hp => ?_) (fun q_2 h_3 hw ht9 => ?_)
  rotate_left
  · exact gx_out C S0 (by rw [hTb]; decide) ht9 hw
  clear hw
  obtain ⟨rfl, hw⟩ := hp
  refine GK.at (p2 := 229) rfl ?_
  refine gk_iload (pc := 229) C.1 1 dX9_check_229 rfl ?_
  refine gk_iload (pc := 231) C.1 2 dX9_check_231 rfl ?_
  refine gc_X9_140 (pc := 233) (As := [.int x5, .int x6]) (rest := []) C hCl (Nat.le_refl _) hw rfl rfl (Nat.le_of_ble_eq_true rfl) dX9_check_233 (fun v9 h_4 hp => ?_) (fun q_6 h_7 hw ht9 => ?_)
  rotate_left
  · exact gx_out C S0 (by rw [hTb]; decide) ht9 hw
  clear hw
  obtain ⟨r_5, rfl, hw⟩ := hp
  refine GK.at (p2 := 236) rfl ?_
  exact gh_aret (pc := 236) (r := r_5) C S0 hret (Or.inl ⟨_, rfl⟩) dX9_check_236 hw
def wb_X9_check_249 (cl : CT) (lm : Nat × Nat) (Q : QT) (E : ET) (x0 : Nat) (x1 : Option Nat) (x2 : Int32) (s0 : Int32) (h : HS) : Prop := dp_Reader_check cl x0 [va_rf x1, .int x2] h (gR (fun r_2 h_1 => cl 134 [.int s0, va_rf r_2] h_1 (gR (fun r_6 h_5 => Q (some (va_rf r_6)) h_5)) E)) E
theorem wk_X9_check_249 {X : Ev} {G : GG} {cl : CT} {lm : Nat × Nat} {Q : QT} {E : ET} {h0 : HS} {d2 : Nat} (C : HC X G RX9 cX9_check (d2 + 1)) (hCl : CallsOK (ev_l X) G d2 cl ∧ hLm G lm ∧ 8 ≤ d2 ∧ LamsOK (ev_l X) G d2 cl) (S0 : HS0 X h0) (hret : (ev_h X).sig.returnType = (Option.some (Jvm.ClassFile.FieldType.object "GathersAllFaults$Look"))) (hXn : ev_n X = 10) (hini : (ev_s X).methodNamed? yX9_check = some (ev_m X)) (hTb : (ev_c X).exceptionTable.toList = []) : ∀ (x0 : Nat) (x1 : Option Nat) (x2 : Int32) (s0 : Int32) (h : HS), wb_X9_check_249 cl lm Q E x0 x1 x2 s0 h → GH X G h (hQ X G h0 Q E) 249 [(0, .ref x0), (1, va_rf x1), (2, .int x2)] [.int s0] := by
  have hlm := hCl.2.1
  have hd8 := hCl.2.2.1
  have hd2 : 1 ≤ d2 := Nat.le_trans (by decide) hd8
  have hLa := hCl.2.2.2
  have hd1 : 1 ≤ d2 + 1 := Nat.le_add_left _ _
  have hC9 := hCl
  replace hCl := hCl.1
  intro x0 x1 x2 s0 h hw
  unfold wb_X9_check_249 at hw
  refine gk_aload_n (pc := 249) C.1 0 dX9_check_249 rfl rfl ?_
  refine gk_qload_n (pc := 250) C.1 1 dX9_check_250 rfl rfl ?_
  refine gk_iload_n (pc := 251) C.1 2 dX9_check_251 rfl rfl ?_
  refine gc_X9_144 (pc := 252) (As := [va_rf x1, .int x2]) (rest := [.int s0]) C hCl (Nat.le_refl _) hw rfl rfl (Nat.le_of_ble_eq_true rfl) dX9_check_252 (fun v9 h_1 hp => ?_) (fun q_3 h_4 hw ht9 => ?_)
  rotate_left
  · exact gx_out C S0 (by rw [hTb]; decide) ht9 hw
  clear hw
  obtain ⟨r_2, rfl, hw⟩ := hp
  refine GK.at (p2 := 255) rfl ?_
  refine gc_X9_148 (pc := 255) (As := [.int s0, va_rf r_2]) (rest := []) C hCl (Nat.le_refl _) hw rfl rfl (Nat.le_of_ble_eq_true rfl) dX9_check_255 (fun v9 h_5 hp => ?_) (fun q_7 h_8 hw ht9 => ?_)
  rotate_left
  · exact gx_out C S0 (by rw [hTb]; decide) ht9 hw
  clear hw
  obtain ⟨r_6, rfl, hw⟩ := hp
  refine GK.at (p2 := 258) rfl ?_
  exact gh_aret (pc := 258) (r := r_6) C S0 hret (Or.inl ⟨_, rfl⟩) dX9_check_258 hw
def wb_X9_check_237 (cl : CT) (lm : Nat × Nat) (Q : QT) (E : ET) (x0 : Nat) (x1 : Option Nat) (x2 : Int32) (x4 : Int32) (h : HS) : Prop := ((¬ x4 = 33 → (wb_X9_check_249 cl lm Q E x0 x1 x2 0 h)) ∧ (x4 = 33 → (wb_X9_check_249 cl lm Q E x0 x1 x2 1 h)))
theorem wk_X9_check_237 {X : Ev} {G : GG} {cl : CT} {lm : Nat × Nat} {Q : QT} {E : ET} {h0 : HS} {d2 : Nat} (C : HC X G RX9 cX9_check (d2 + 1)) (hCl : CallsOK (ev_l X) G d2 cl ∧ hLm G lm ∧ 8 ≤ d2 ∧ LamsOK (ev_l X) G d2 cl) (S0 : HS0 X h0) (hret : (ev_h X).sig.returnType = (Option.some (Jvm.ClassFile.FieldType.object "GathersAllFaults$Look"))) (hXn : ev_n X = 10) (hini : (ev_s X).methodNamed? yX9_check = some (ev_m X)) (hTb : (ev_c X).exceptionTable.toList = []) : ∀ (x0 : Nat) (x1 : Option Nat) (x2 : Int32) (x4 : Int32) (h : HS), wb_X9_check_237 cl lm Q E x0 x1 x2 x4 h → GH X G h (hQ X G h0 Q E) 237 [(0, .ref x0), (1, va_rf x1), (2, .int x2), (4, .int x4)] [] := by
  have hlm := hCl.2.1
  have hd8 := hCl.2.2.1
  have hd2 : 1 ≤ d2 := Nat.le_trans (by decide) hd8
  have hLa := hCl.2.2.2
  have hd1 : 1 ≤ d2 + 1 := Nat.le_add_left _ _
  have hC9 := hCl
  replace hCl := hCl.1
  intro x0 x1 x2 x4 h hw
  unfold wb_X9_check_237 at hw
  refine gk_iload (pc := 237) C.1 3 dX9_check_237 rfl ?_
  refine gk_bipush (pc := 239) (v := 33) C.1 dX9_check_239 (by decide) ?_
  refine gk_icmp_ne (pc := 241) (tgt := 248) C.1 dX9_check_241 (by decide) (fun c_1 => ?_) (fun c_1 => ?_)
  · replace hw := hw.1 c_1
    refine gk_iconst (pc := 248) (v := 0) C.1 dX9_check_248 (by decide) ?_
    refine GK.sub (lv' := [(0, .ref x0), (1, va_rf x1), (2, .int x2)]) [0, 1, 2] rfl ?_
    exact wk_X9_check_249 C hC9 S0 hret hXn hini hTb  _ _ _ _ _ hw
  · replace hw := hw.2 c_1
    refine gk_iconst (pc := 244) (v := 1) C.1 dX9_check_244 (by decide) ?_
    refine gk_goto (pc := 245) (tgt := 249) C.1 dX9_check_245 (by decide) ?_
    refine GK.sub (lv' := [(0, .ref x0), (1, va_rf x1), (2, .int x2)]) [0, 1, 2] rfl ?_
    exact wk_X9_check_249 C hC9 S0 hret hXn hini hTb  _ _ _ _ _ hw
def wb_X9_check_290 (cl : CT) (lm : Nat × Nat) (Q : QT) (E : ET) (x0 : Nat) (x1 : Option Nat) (x3 : Int32) (x7 : Int32) (x8 : Int32) (s0 : Nat) (s1 : Int32) (h : HS) : Prop := dp_Reader_wrong cl s0 [.int s1, .int x3] h (gV (fun h_1 => dp_Reader_check cl x0 [va_rf x1, .int 1] h_1 (gR (fun r_5 h_4 => cl 94 [.int x7, .int x8, va_rf r_5] h_4 (gR (fun r_9 h_8 => Q (some (va_rf r_9)) h_8)) E)) E)) E
theorem wk_X9_check_290 {X : Ev} {G : GG} {cl : CT} {lm : Nat × Nat} {Q : QT} {E : ET} {h0 : HS} {d2 : Nat} (C : HC X G RX9 cX9_check (d2 + 1)) (hCl : CallsOK (ev_l X) G d2 cl ∧ hLm G lm ∧ 8 ≤ d2 ∧ LamsOK (ev_l X) G d2 cl) (S0 : HS0 X h0) (hret : (ev_h X).sig.returnType = (Option.some (Jvm.ClassFile.FieldType.object "GathersAllFaults$Look"))) (hXn : ev_n X = 10) (hini : (ev_s X).methodNamed? yX9_check = some (ev_m X)) (hTb : (ev_c X).exceptionTable.toList = []) : ∀ (x0 : Nat) (x1 : Option Nat) (x3 : Int32) (x7 : Int32) (x8 : Int32) (s0 : Nat) (s1 : Int32) (h : HS), wb_X9_check_290 cl lm Q E x0 x1 x3 x7 x8 s0 s1 h → GH X G h (hQ X G h0 Q E) 290 [(0, .ref x0), (1, va_rf x1), (3, .int x3), (7, .int x7), (8, .int x8)] [.int s1, .ref s0] := by
  have hlm := hCl.2.1
  have hd8 := hCl.2.2.1
  have hd2 : 1 ≤ d2 := Nat.le_trans (by decide) hd8
  have hLa := hCl.2.2.2
  have hd1 : 1 ≤ d2 + 1 := Nat.le_add_left _ _
  have hC9 := hCl
  replace hCl := hCl.1
  intro x0 x1 x3 x7 x8 s0 s1 h hw
  unfold wb_X9_check_290 at hw
  refine gk_iload_n (pc := 290) C.1 2 dX9_check_290 rfl rfl ?_
  refine gc_X9_63 (pc := 291) (As := [.int s1, .int x3]) (rest := []) C hCl (Nat.le_refl _) hw rfl rfl (Nat.le_of_ble_eq_true rfl) dX9_check_291 (fun v9 h_1 hp => ?_) (fun q_2 h_3 hw ht9 => ?_)
  rotate_left
  · exact gx_out C S0 (by rw [hTb]; decide) ht9 hw
  clear hw
  obtain ⟨rfl, hw⟩ := hp
  refine GK.at (p2 := 294) rfl ?_
  refine gk_iload (pc := 294) C.1 3 dX9_check_294 rfl ?_
  refine gk_iload (pc := 296) C.1 4 dX9_check_296 rfl ?_
  refine gk_aload_n (pc := 298) C.1 0 dX9_check_298 rfl rfl ?_
  refine gk_qload_n (pc := 299) C.1 1 dX9_check_299 rfl rfl ?_
  refine gk_iconst (pc := 300) (v := 1) C.1 dX9_check_300 (by decide) ?_
  refine gc_X9_144 (pc := 301) (As := [va_rf x1, .int 1]) (rest := [.int x8, .int x7]) C hCl (Nat.le_refl _) hw rfl rfl (Nat.le_of_ble_eq_true rfl) dX9_check_301 (fun v9 h_4 hp => ?_) (fun q_6 h_7 hw ht9 => ?_)
  rotate_left
  · exact gx_out C S0 (by rw [hTb]; decide) ht9 hw
  clear hw
  obtain ⟨r_5, rfl, hw⟩ := hp
  refine GK.at (p2 := 304) rfl ?_
  refine gc_X9_156 (pc := 304) (As := [.int x7, .int x8, va_rf r_5]) (rest := []) C hCl (Nat.le_refl _) hw rfl rfl (Nat.le_of_ble_eq_true rfl) dX9_check_304 (fun v9 h_8 hp => ?_) (fun q_10 h_11 hw ht9 => ?_)
  rotate_left
  · exact gx_out C S0 (by rw [hTb]; decide) ht9 hw
  clear hw
  obtain ⟨r_9, rfl, hw⟩ := hp
  refine GK.at (p2 := 307) rfl ?_
  exact gh_aret (pc := 307) (r := r_9) C S0 hret (Or.inl ⟨_, rfl⟩) dX9_check_307 hw
def wb_X9_check_366 (cl : CT) (lm : Nat × Nat) (Q : QT) (E : ET) (x1 : Option Nat) (x3 : Int32) (s0 : Nat) (s1 : Int32) (h : HS) : Prop := dp_Reader_wrong cl s0 [.int s1, .int x3] h (gV (fun h_1 => ∃ a_4 : Nat, x1 = some a_4 ∧ (dp_Compiled_again cl a_4 [] h_1 (gR (fun r_6 h_5 => Q (some (va_rf r_6)) h_5)) E))) E
theorem wk_X9_check_366 {X : Ev} {G : GG} {cl : CT} {lm : Nat × Nat} {Q : QT} {E : ET} {h0 : HS} {d2 : Nat} (C : HC X G RX9 cX9_check (d2 + 1)) (hCl : CallsOK (ev_l X) G d2 cl ∧ hLm G lm ∧ 8 ≤ d2 ∧ LamsOK (ev_l X) G d2 cl) (S0 : HS0 X h0) (hret : (ev_h X).sig.returnType = (Option.some (Jvm.ClassFile.FieldType.object "GathersAllFaults$Look"))) (hXn : ev_n X = 10) (hini : (ev_s X).methodNamed? yX9_check = some (ev_m X)) (hTb : (ev_c X).exceptionTable.toList = []) : ∀ (x1 : Option Nat) (x3 : Int32) (s0 : Nat) (s1 : Int32) (h : HS), wb_X9_check_366 cl lm Q E x1 x3 s0 s1 h → GH X G h (hQ X G h0 Q E) 366 [(1, va_rf x1), (3, .int x3)] [.int s1, .ref s0] := by
  have hlm := hCl.2.1
  have hd8 := hCl.2.2.1
  have hd2 : 1 ≤ d2 := Nat.le_trans (by decide) hd8
  have hLa := hCl.2.2.2
  have hd1 : 1 ≤ d2 + 1 := Nat.le_add_left _ _
  have hC9 := hCl
  replace hCl := hCl.1
  intro x1 x3 s0 s1 h hw
  unfold wb_X9_check_366 at hw
  refine gk_iload_n (pc := 366) C.1 1 dX9_check_366 rfl rfl ?_
  refine gc_X9_63 (pc := 367) (As := [.int s1, .int x3]) (rest := []) C hCl (Nat.le_refl _) hw rfl rfl (Nat.le_of_ble_eq_true rfl) dX9_check_367 (fun v9 h_1 hp => ?_) (fun q_2 h_3 hw ht9 => ?_)
  rotate_left
  · exact gx_out C S0 (by rw [hTb]; decide) ht9 hw
  clear hw
  obtain ⟨rfl, hw⟩ := hp
  refine GK.at (p2 := 370) rfl ?_
  refine gk_qload_n (pc := 370) C.1 0 dX9_check_370 rfl rfl ?_
  obtain ⟨a_4, rfl, hw⟩ := hw
  refine gc_X9_171 (pc := 371) (As := []) (rest := []) C hCl (Nat.le_refl _) hw rfl rfl (Nat.le_of_ble_eq_true rfl) dX9_check_371 (fun v9 h_5 hp => ?_) (fun q_7 h_8 hw ht9 => ?_)
  rotate_left
  · exact gx_out C S0 (by rw [hTb]; decide) ht9 hw
  clear hw
  obtain ⟨r_6, rfl, hw⟩ := hp
  refine GK.at (p2 := 374) rfl ?_
  exact gh_aret (pc := 374) (r := r_6) C S0 hret (Or.inl ⟨_, rfl⟩) dX9_check_374 hw
def wb_X9_check_361 (cl : CT) (lm : Nat × Nat) (Q : QT) (E : ET) (x1 : Option Nat) (x3 : Int32) (s0 : Nat) (h : HS) : Prop := wb_X9_check_366 cl lm Q E x1 x3 s0 1 h
theorem wk_X9_check_361 {X : Ev} {G : GG} {cl : CT} {lm : Nat × Nat} {Q : QT} {E : ET} {h0 : HS} {d2 : Nat} (C : HC X G RX9 cX9_check (d2 + 1)) (hCl : CallsOK (ev_l X) G d2 cl ∧ hLm G lm ∧ 8 ≤ d2 ∧ LamsOK (ev_l X) G d2 cl) (S0 : HS0 X h0) (hret : (ev_h X).sig.returnType = (Option.some (Jvm.ClassFile.FieldType.object "GathersAllFaults$Look"))) (hXn : ev_n X = 10) (hini : (ev_s X).methodNamed? yX9_check = some (ev_m X)) (hTb : (ev_c X).exceptionTable.toList = []) : ∀ (x1 : Option Nat) (x3 : Int32) (s0 : Nat) (h : HS), wb_X9_check_361 cl lm Q E x1 x3 s0 h → GH X G h (hQ X G h0 Q E) 361 [(1, va_rf x1), (3, .int x3)] [.ref s0] := by
  have hlm := hCl.2.1
  have hd8 := hCl.2.2.1
  have hd2 : 1 ≤ d2 := Nat.le_trans (by decide) hd8
  have hLa := hCl.2.2.2
  have hd1 : 1 ≤ d2 + 1 := Nat.le_add_left _ _
  have hC9 := hCl
  replace hCl := hCl.1
  intro x1 x3 s0 h hw
  unfold wb_X9_check_361 at hw
  refine gk_iconst (pc := 361) (v := 1) C.1 dX9_check_361 (by decide) ?_
  refine gk_goto (pc := 362) (tgt := 366) C.1 dX9_check_362 (by decide) ?_
  refine GK.sub (lv' := [(1, va_rf x1), (3, .int x3)]) [0, 1] rfl ?_
  exact wk_X9_check_366 C hC9 S0 hret hXn hini hTb  _ _ _ _ _ hw
def wb_X9_check_109 (cl : CT) (lm : Nat × Nat) (Q : QT) (E : ET) (x0 : Nat) (x1 : Option Nat) (x2 : Int32) (x3 : Int32) (x4 : Int32) (s0 : Nat) (s1 : Int32) (h : HS) : Prop := dp_Reader_mustStand cl s0 [.int s1] h (gV (fun h_1 => (hT h_1 x0 = 15) ∧ ((hT h_1 x0 = 15) ∧ (∀ h_4 : HS, h_4 = sI h_1 49 x0 ((hI h_1 49 x0) + 1) → (((x4 = 33 → (wb_X9_check_237 cl lm Q E x0 x1 x2 x4 h_4)) ∧ (¬ x4 = 33 → ((x4 = 35 → (dp_Reader_pair cl x0 [] h_4 (gI (fun r_8 h_7 => dp_Reader_pair cl x0 [] h_7 (gI (fun r_12 h_11 => ((r_8 ≤ r_12 → (wb_X9_check_225 cl lm Q E x3 r_8 r_12 x0 0 h_11)) ∧ (¬ r_8 ≤ r_12 → (wb_X9_check_225 cl lm Q E x3 r_8 r_12 x0 1 h_11))))) E)) E)) ∧ (¬ x4 = 35 → ((x4 = 38 → (dp_Reader_check cl x0 [va_rf x1, .int x2] h_4 (gR (fun r_18 h_17 => cl 114 [va_rf r_18] h_17 (gR (fun r_22 h_21 => Q (some (va_rf r_22)) h_21)) E)) E)) ∧ (¬ x4 = 38 → ((x4 = 47 → (dp_Reader_check cl x0 [va_rf x1, .int x2] h_4 (gR (fun r_27 h_26 => dp_Reader_check cl x0 [va_rf x1, .int x2] h_26 (gR (fun r_31 h_30 => cl 64 [va_rf r_27, va_rf r_31] h_30 (gR (fun r_35 h_34 => Q (some (va_rf r_35)) h_34)) E)) E)) E)) ∧ (¬ x4 = 47 → ((x4 = 64 → (dp_Reader_digit cl x0 [] h_4 (gI (fun r_40 h_39 => dp_Reader_digit cl x0 [] h_39 (gI (fun r_44 h_43 => ((r_40 ≤ r_44 → (wb_X9_check_290 cl lm Q E x0 x1 x3 r_40 r_44 x0 0 h_43)) ∧ (¬ r_40 ≤ r_44 → (wb_X9_check_290 cl lm Q E x0 x1 x3 r_40 r_44 x0 1 h_43))))) E)) E)) ∧ (¬ x4 = 64 → ((x4 = 94 → ((hT h_4 x0 = 15) ∧ ((hT h_4 x0 = 15) ∧ (∀ h_49 : HS, h_49 = sI h_4 52 x0 ((hI h_4 52 x0) + 1) → (((x2 = 0 → (wb_X9_check_361 cl lm Q E x1 x3 x0 h_49)) ∧ (¬ x2 = 0 → ((hT h_49 x0 = 15) ∧ ((((hI h_49 52 x0) ≤ 3 → (wb_X9_check_366 cl lm Q E x1 x3 x0 0 h_49)) ∧ (¬ (hI h_49 52 x0) ≤ 3 → (wb_X9_check_361 cl lm Q E x1 x3 x0 h_49)))))))))))) ∧ (¬ x4 = 94 → ((x4 = 123 → (dp_Reader_record cl x0 [va_rf x1] h_4 (gR (fun r_54 h_53 => Q (some (va_rf r_54)) h_53)) E)) ∧ (¬ x4 = 123 → ((x4 = 126 → (wb_X9_check_237 cl lm Q E x0 x1 x2 x4 h_4)) ∧ (¬ x4 = 126 → (∀ a_58 : Nat, hT h_4 a_58 = 311 → (Q (some (va_rf (some a_58))) h_4))))))))))))))))))))))) E
theorem wk_X9_check_109 {X : Ev} {G : GG} {cl : CT} {lm : Nat × Nat} {Q : QT} {E : ET} {h0 : HS} {d2 : Nat} (C : HC X G RX9 cX9_check (d2 + 1)) (hCl : CallsOK (ev_l X) G d2 cl ∧ hLm G lm ∧ 8 ≤ d2 ∧ LamsOK (ev_l X) G d2 cl) (S0 : HS0 X h0) (hret : (ev_h X).sig.returnType = (Option.some (Jvm.ClassFile.FieldType.object "GathersAllFaults$Look"))) (hXn : ev_n X = 10) (hini : (ev_s X).methodNamed? yX9_check = some (ev_m X)) (hTb : (ev_c X).exceptionTable.toList = []) : ∀ (x0 : Nat) (x1 : Option Nat) (x2 : Int32) (x3 : Int32) (x4 : Int32) (s0 : Nat) (s1 : Int32) (h : HS), wb_X9_check_109 cl lm Q E x0 x1 x2 x3 x4 s0 s1 h → GH X G h (hQ X G h0 Q E) 109 [(0, .ref x0), (1, va_rf x1), (2, .int x2), (3, .int x3), (4, .int x4)] [.int s1, .ref s0] := by
  have hlm := hCl.2.1
  have hd8 := hCl.2.2.1
  have hd2 : 1 ≤ d2 := Nat.le_trans (by decide) hd8
  have hLa := hCl.2.2.2
  have hd1 : 1 ≤ d2 + 1 := Nat.le_add_left _ _
  have hC9 := hCl
  replace hCl := hCl.1
  intro x0 x1 x2 x3 x4 s0 s1 h hw
  unfold wb_X9_check_109 at hw
  refine gc_X9_42 (pc := 109) (As := [.int s1]) (rest := []) C hCl (Nat.le_refl _) hw rfl rfl (Nat.le_of_ble_eq_true rfl) dX9_check_109 (fun v9 h_1 hp => ?_) (fun q_2 h_3 hw ht9 => ?_)
  rotate_left
  · exact gx_out C S0 (by rw [hTb]; decide) ht9 hw
  clear hw
  obtain ⟨rfl, hw⟩ := hp
  refine GK.at (p2 := 112) rfl ?_
  refine gk_aload_n (pc := 112) C.1 0 dX9_check_112 rfl rfl ?_
  refine gk_dup (pc := 113) C.1 dX9_check_113 rfl ?_
  obtain ⟨ht, hw⟩ := hw
  refine gf_X9_26 (pc := 114) C ht dX9_check_114 ?_
  refine gk_iconst (pc := 117) (v := 1) C.1 dX9_check_117 (by decide) ?_
  refine gk_iadd (pc := 118) C.1 dX9_check_118 ?_
  obtain ⟨ht, hw⟩ := hw
  refine gfp_X9_26 (pc := 119) C ht dX9_check_119 (fun h_4 eh_4 => ?_)
  replace hw := hw h_4 eh_4
  refine gk_iload (pc := 122) C.1 4 dX9_check_122 rfl ?_
  by_cases c_5 : x4 = 33
  · replace hw := hw.1 c_5
    refine gk_lookup (pc := 124) (off := 113) (tgt := 237) C.1 dX9_check_124 (by decide) (by rw [c_5]; decide) (by decide) ?_
    refine GK.sub (lv' := [(0, .ref x0), (1, va_rf x1), (2, .int x2), (4, .int x4)]) [0, 1, 2, 4] rfl ?_
    exact wk_X9_check_237 C hC9 S0 hret hXn hini hTb  _ _ _ _ _ hw
  · replace hw := hw.2 c_5
    by_cases c_6 : x4 = 35
    · replace hw := hw.1 c_6
      refine gk_lookup (pc := 124) (off := 76) (tgt := 200) C.1 dX9_check_124 (by decide) (by rw [c_6]; decide) (by decide) ?_
      refine gk_aload_n (pc := 200) C.1 0 dX9_check_200 rfl rfl ?_
      refine gc_X9_137 (pc := 201) (As := []) (rest := []) C hCl (Nat.le_refl _) hw rfl rfl (Nat.le_of_ble_eq_true rfl) dX9_check_201 (fun v9 h_7 hp => ?_) (fun q_9 h_10 hw ht9 => ?_)
      rotate_left
      · exact gx_out C S0 (by rw [hTb]; decide) ht9 hw
      clear hw
      obtain ⟨r_8, rfl, hw⟩ := hp
      refine GK.at (p2 := 204) rfl ?_
      refine gk_istore (pc := 204) (lv' := [(5, Value.int r_8), (0, Value.ref x0), (1, va_rf x1), (2, Value.int x2), (3, Value.int x3), (4, Value.int x4)]) C.1 dX9_check_204 (by rw [hXn]; decide) (by first | rfl | simp [va_rf_S, va_rf_cat, cat_i, cat_a, cat_l, cat_f, fin4_0, fin4_1, fin4_2, fin4_3]) ?_
      refine gk_aload_n (pc := 206) C.1 1 dX9_check_206 rfl rfl ?_
      refine gc_X9_137 (pc := 207) (As := []) (rest := []) C hCl (Nat.le_refl _) hw rfl rfl (Nat.le_of_ble_eq_true rfl) dX9_check_207 (fun v9 h_11 hp => ?_) (fun q_13 h_14 hw ht9 => ?_)
      rotate_left
      · exact gx_out C S0 (by rw [hTb]; decide) ht9 hw
      clear hw
      obtain ⟨r_12, rfl, hw⟩ := hp
      refine GK.at (p2 := 210) rfl ?_
      refine gk_istore (pc := 210) (lv' := [(6, Value.int r_12), (5, Value.int r_8), (0, Value.ref x0), (1, va_rf x1), (2, Value.int x2), (3, Value.int x3), (4, Value.int x4)]) C.1 dX9_check_210 (by rw [hXn]; decide) (by first | rfl | simp [va_rf_S, va_rf_cat, cat_i, cat_a, cat_l, cat_f, fin4_0, fin4_1, fin4_2, fin4_3]) ?_
      refine gk_aload_n (pc := 212) C.1 2 dX9_check_212 rfl rfl ?_
      refine gk_iload (pc := 213) C.1 1 dX9_check_213 rfl ?_
      refine gk_iload (pc := 215) C.1 0 dX9_check_215 rfl ?_
      refine gk_icmp_le (pc := 217) (tgt := 224) C.1 dX9_check_217 (by decide) (fun c_15 => ?_) (fun c_15 => ?_)
      · replace hw := hw.1 c_15
        refine gk_iconst (pc := 224) (v := 0) C.1 dX9_check_224 (by decide) ?_
        refine GK.sub (lv' := [(3, .int x3), (5, .int r_8), (6, .int r_12)]) [5, 1, 0] rfl ?_
        exact wk_X9_check_225 C hC9 S0 hret hXn hini hTb  _ _ _ _ _ _ hw
      · replace hw := hw.2 c_15
        refine gk_iconst (pc := 220) (v := 1) C.1 dX9_check_220 (by decide) ?_
        refine gk_goto (pc := 221) (tgt := 225) C.1 dX9_check_221 (by decide) ?_
        refine GK.sub (lv' := [(3, .int x3), (5, .int r_8), (6, .int r_12)]) [5, 1, 0] rfl ?_
        exact wk_X9_check_225 C hC9 S0 hret hXn hini hTb  _ _ _ _ _ _ hw
    · replace hw := hw.2 c_6
      by_cases c_16 : x4 = 38
      · replace hw := hw.1 c_16
        refine gk_lookup (pc := 124) (off := 184) (tgt := 308) C.1 dX9_check_124 (by decide) (by rw [c_16]; decide) (by decide) ?_
        refine gk_aload_n (pc := 308) C.1 0 dX9_check_308 rfl rfl ?_
        refine gk_qload_n (pc := 309) C.1 1 dX9_check_309 rfl rfl ?_
        refine gk_iload_n (pc := 310) C.1 2 dX9_check_310 rfl rfl ?_
        refine gc_X9_144 (pc := 311) (As := [va_rf x1, .int x2]) (rest := []) C hCl (Nat.le_refl _) hw rfl rfl (Nat.le_of_ble_eq_true rfl) dX9_check_311 (fun v9 h_17 hp => ?_) (fun q_19 h_20 hw ht9 => ?_)
        rotate_left
        · exact gx_out C S0 (by rw [hTb]; decide) ht9 hw
        clear hw
        obtain ⟨r_18, rfl, hw⟩ := hp
        refine GK.at (p2 := 314) rfl ?_
        refine gc_X9_160 (pc := 314) (As := [va_rf r_18]) (rest := []) C hCl (Nat.le_refl _) hw rfl rfl (Nat.le_of_ble_eq_true rfl) dX9_check_314 (fun v9 h_21 hp => ?_) (fun q_23 h_24 hw ht9 => ?_)
        rotate_left
        · exact gx_out C S0 (by rw [hTb]; decide) ht9 hw
        clear hw
        obtain ⟨r_22, rfl, hw⟩ := hp
        refine GK.at (p2 := 317) rfl ?_
        exact gh_aret (pc := 317) (r := r_22) C S0 hret (Or.inl ⟨_, rfl⟩) dX9_check_317 hw
      · replace hw := hw.2 c_16
        by_cases c_25 : x4 = 47
        · replace hw := hw.1 c_25
          refine gk_lookup (pc := 124) (off := 194) (tgt := 318) C.1 dX9_check_124 (by decide) (by rw [c_25]; decide) (by decide) ?_
          refine gk_aload_n (pc := 318) C.1 0 dX9_check_318 rfl rfl ?_
          refine gk_qload_n (pc := 319) C.1 1 dX9_check_319 rfl rfl ?_
          refine gk_iload_n (pc := 320) C.1 2 dX9_check_320 rfl rfl ?_
          refine gc_X9_144 (pc := 321) (As := [va_rf x1, .int x2]) (rest := []) C hCl (Nat.le_refl _) hw rfl rfl (Nat.le_of_ble_eq_true rfl) dX9_check_321 (fun v9 h_26 hp => ?_) (fun q_28 h_29 hw ht9 => ?_)
          rotate_left
          · exact gx_out C S0 (by rw [hTb]; decide) ht9 hw
          clear hw
          obtain ⟨r_27, rfl, hw⟩ := hp
          refine GK.at (p2 := 324) rfl ?_
          refine gk_qstore (pc := 324) (lv' := [(9, va_rf r_27), (0, Value.ref x0), (1, va_rf x1), (2, Value.int x2), (3, Value.int x3), (4, Value.int x4)]) C.1 dX9_check_324 (by rw [hXn]; decide) (by first | rfl | simp [va_rf_S, va_rf_cat, cat_i, cat_a, cat_l, cat_f, fin4_0, fin4_1, fin4_2, fin4_3]) ?_
          refine gk_qload (pc := 326) C.1 0 dX9_check_326 rfl ?_
          refine gk_aload_n (pc := 328) C.1 1 dX9_check_328 rfl rfl ?_
          refine gk_qload_n (pc := 329) C.1 2 dX9_check_329 rfl rfl ?_
          refine gk_iload_n (pc := 330) C.1 3 dX9_check_330 rfl rfl ?_
          refine gc_X9_144 (pc := 331) (As := [va_rf x1, .int x2]) (rest := [va_rf r_27]) C hCl (Nat.le_refl _) hw rfl rfl (by simp [va_rf_S, va_rf_cat, cat_i, cat_a, cat_l, cat_f, fin4_0, fin4_1, fin4_2, fin4_3]) dX9_check_331 (fun v9 h_30 hp => ?_) (fun q_32 h_33 hw ht9 => ?_)
          rotate_left
          · exact gx_out C S0 (by rw [hTb]; decide) ht9 hw
          clear hw
          obtain ⟨r_31, rfl, hw⟩ := hp
          refine GK.at (p2 := 334) rfl ?_
          refine gc_X9_164 (pc := 334) (As := [va_rf r_27, va_rf r_31]) (rest := []) C hCl (Nat.le_refl _) hw rfl rfl (Nat.le_of_ble_eq_true rfl) dX9_check_334 (fun v9 h_34 hp => ?_) (fun q_36 h_37 hw ht9 => ?_)
          rotate_left
          · exact gx_out C S0 (by rw [hTb]; decide) ht9 hw
          clear hw
          obtain ⟨r_35, rfl, hw⟩ := hp
          refine GK.at (p2 := 337) rfl ?_
          exact gh_aret (pc := 337) (r := r_35) C S0 hret (Or.inl ⟨_, rfl⟩) dX9_check_337 hw
        · replace hw := hw.2 c_25
          by_cases c_38 : x4 = 64
          · replace hw := hw.1 c_38
            refine gk_lookup (pc := 124) (off := 141) (tgt := 265) C.1 dX9_check_124 (by decide) (by rw [c_38]; decide) (by decide) ?_
            refine gk_aload_n (pc := 265) C.1 0 dX9_check_265 rfl rfl ?_
            refine gc_X9_67 (pc := 266) (As := []) (rest := []) C hCl (Nat.le_refl _) hw rfl rfl (Nat.le_of_ble_eq_true rfl) dX9_check_266 (fun v9 h_39 hp => ?_) (fun q_41 h_42 hw ht9 => ?_)
            rotate_left
            · exact gx_out C S0 (by rw [hTb]; decide) ht9 hw
            clear hw
            obtain ⟨r_40, rfl, hw⟩ := hp
            refine GK.at (p2 := 269) rfl ?_
            refine gk_istore (pc := 269) (lv' := [(7, Value.int r_40), (0, Value.ref x0), (1, va_rf x1), (2, Value.int x2), (3, Value.int x3), (4, Value.int x4)]) C.1 dX9_check_269 (by rw [hXn]; decide) (by first | rfl | simp [va_rf_S, va_rf_cat, cat_i, cat_a, cat_l, cat_f, fin4_0, fin4_1, fin4_2, fin4_3]) ?_
            refine gk_aload_n (pc := 271) C.1 1 dX9_check_271 rfl rfl ?_
            refine gc_X9_67 (pc := 272) (As := []) (rest := []) C hCl (Nat.le_refl _) hw rfl rfl (Nat.le_of_ble_eq_true rfl) dX9_check_272 (fun v9 h_43 hp => ?_) (fun q_45 h_46 hw ht9 => ?_)
            rotate_left
            · exact gx_out C S0 (by rw [hTb]; decide) ht9 hw
            clear hw
            obtain ⟨r_44, rfl, hw⟩ := hp
            refine GK.at (p2 := 275) rfl ?_
            refine gk_istore (pc := 275) (lv' := [(8, Value.int r_44), (7, Value.int r_40), (0, Value.ref x0), (1, va_rf x1), (2, Value.int x2), (3, Value.int x3), (4, Value.int x4)]) C.1 dX9_check_275 (by rw [hXn]; decide) (by first | rfl | simp [va_rf_S, va_rf_cat, cat_i, cat_a, cat_l, cat_f, fin4_0, fin4_1, fin4_2, fin4_3]) ?_
            refine gk_aload_n (pc := 277) C.1 2 dX9_check_277 rfl rfl ?_
            refine gk_iload (pc := 278) C.1 1 dX9_check_278 rfl ?_
            refine gk_iload (pc := 280) C.1 0 dX9_check_280 rfl ?_
            refine gk_icmp_le (pc := 282) (tgt := 289) C.1 dX9_check_282 (by decide) (fun c_47 => ?_) (fun c_47 => ?_)
            · replace hw := hw.1 c_47
              refine gk_iconst (pc := 289) (v := 0) C.1 dX9_check_289 (by decide) ?_
              refine GK.sub (lv' := [(0, .ref x0), (1, va_rf x1), (3, .int x3), (7, .int r_40), (8, .int r_44)]) [2, 3, 5, 1, 0] rfl ?_
              exact wk_X9_check_290 C hC9 S0 hret hXn hini hTb  _ _ _ _ _ _ _ _ hw
            · replace hw := hw.2 c_47
              refine gk_iconst (pc := 285) (v := 1) C.1 dX9_check_285 (by decide) ?_
              refine gk_goto (pc := 286) (tgt := 290) C.1 dX9_check_286 (by decide) ?_
              refine GK.sub (lv' := [(0, .ref x0), (1, va_rf x1), (3, .int x3), (7, .int r_40), (8, .int r_44)]) [2, 3, 5, 1, 0] rfl ?_
              exact wk_X9_check_290 C hC9 S0 hret hXn hini hTb  _ _ _ _ _ _ _ _ hw
          · replace hw := hw.2 c_38
            by_cases c_48 : x4 = 94
            · replace hw := hw.1 c_48
              refine gk_lookup (pc := 124) (off := 214) (tgt := 338) C.1 dX9_check_124 (by decide) (by rw [c_48]; decide) (by decide) ?_
              refine gk_aload_n (pc := 338) C.1 0 dX9_check_338 rfl rfl ?_
              refine gk_dup (pc := 339) C.1 dX9_check_339 rfl ?_
              obtain ⟨ht, hw⟩ := hw
              refine gf_X9_168 (pc := 340) C ht dX9_check_340 ?_
              refine gk_iconst (pc := 343) (v := 1) C.1 dX9_check_343 (by decide) ?_
              refine gk_iadd (pc := 344) C.1 dX9_check_344 ?_
              obtain ⟨ht, hw⟩ := hw
              refine gfp_X9_168 (pc := 345) C ht dX9_check_345 (fun h_49 eh_49 => ?_)
              replace hw := hw h_49 eh_49
              refine gk_aload_n (pc := 348) C.1 0 dX9_check_348 rfl rfl ?_
              refine gk_iload_n (pc := 349) C.1 2 dX9_check_349 rfl rfl ?_
              refine gk_if_eq (pc := 350) (tgt := 361) C.1 dX9_check_350 (by decide) (fun c_50 => ?_) (fun c_50 => ?_)
              · replace hw := hw.1 c_50
                refine GK.sub (lv' := [(1, va_rf x1), (3, .int x3)]) [1, 3] rfl ?_
                exact wk_X9_check_361 C hC9 S0 hret hXn hini hTb  _ _ _ _ hw
              · replace hw := hw.2 c_50
                refine gk_aload_n (pc := 353) C.1 0 dX9_check_353 rfl rfl ?_
                obtain ⟨ht, hw⟩ := hw
                refine gf_X9_168 (pc := 354) C ht dX9_check_354 ?_
                refine gk_iconst (pc := 357) (v := 3) C.1 dX9_check_357 (by decide) ?_
                refine gk_icmp_le (pc := 358) (tgt := 365) C.1 dX9_check_358 (by decide) (fun c_51 => ?_) (fun c_51 => ?_)
                · replace hw := hw.1 c_51
                  refine gk_iconst (pc := 365) (v := 0) C.1 dX9_check_365 (by decide) ?_
                  refine GK.sub (lv' := [(1, va_rf x1), (3, .int x3)]) [1, 3] rfl ?_
                  exact wk_X9_check_366 C hC9 S0 hret hXn hini hTb  _ _ _ _ _ hw
                · replace hw := hw.2 c_51
                  refine GK.sub (lv' := [(1, va_rf x1), (3, .int x3)]) [1, 3] rfl ?_
                  exact wk_X9_check_361 C hC9 S0 hret hXn hini hTb  _ _ _ _ hw
            · replace hw := hw.2 c_48
              by_cases c_52 : x4 = 123
              · replace hw := hw.1 c_52
                refine gk_lookup (pc := 124) (off := 135) (tgt := 259) C.1 dX9_check_124 (by decide) (by rw [c_52]; decide) (by decide) ?_
                refine gk_aload_n (pc := 259) C.1 0 dX9_check_259 rfl rfl ?_
                refine gk_qload_n (pc := 260) C.1 1 dX9_check_260 rfl rfl ?_
                refine gc_X9_152 (pc := 261) (As := [va_rf x1]) (rest := []) C hCl (Nat.le_refl _) hw rfl rfl (Nat.le_of_ble_eq_true rfl) dX9_check_261 (fun v9 h_53 hp => ?_) (fun q_55 h_56 hw ht9 => ?_)
                rotate_left
                · exact gx_out C S0 (by rw [hTb]; decide) ht9 hw
                clear hw
                obtain ⟨r_54, rfl, hw⟩ := hp
                refine GK.at (p2 := 264) rfl ?_
                exact gh_aret (pc := 264) (r := r_54) C S0 hret (Or.inl ⟨_, rfl⟩) dX9_check_264 hw
              · replace hw := hw.2 c_52
                by_cases c_57 : x4 = 126
                · replace hw := hw.1 c_57
                  refine gk_lookup (pc := 124) (off := 113) (tgt := 237) C.1 dX9_check_124 (by decide) (by rw [c_57]; decide) (by decide) ?_
                  refine GK.sub (lv' := [(0, .ref x0), (1, va_rf x1), (2, .int x2), (4, .int x4)]) [0, 1, 2, 4] rfl ?_
                  exact wk_X9_check_237 C hC9 S0 hret hXn hini hTb  _ _ _ _ _ hw
                · replace hw := hw.2 c_57
                  refine gk_lookup (pc := 124) (off := 251) (tgt := 375) C.1 dX9_check_124 (by decide) ((lv_osw c_5 (k := 33) (by decide)).trans ((lv_osw c_6 (k := 35) (by decide)).trans ((lv_osw c_16 (k := 38) (by decide)).trans ((lv_osw c_25 (k := 47) (by decide)).trans ((lv_osw c_38 (k := 64) (by decide)).trans ((lv_osw c_48 (k := 94) (by decide)).trans ((lv_osw c_52 (k := 123) (by decide)).trans ((lv_osw c_57 (k := 126) (by decide)).trans (rfl))))))))) (by decide) ?_
                  refine gd_11 C hini (Nat.le_of_ble_eq_true rfl) dX9_check_375 (fun a_58 z3 => ?_)
                  replace hw := hw a_58 z3
                  exact gh_aret (pc := 380) (r := (some a_58)) C S0 hret (Or.inl ⟨_, rfl⟩) dX9_check_380 hw
def wb_X9_check_104 (cl : CT) (lm : Nat × Nat) (Q : QT) (E : ET) (x0 : Nat) (x1 : Option Nat) (x2 : Int32) (x3 : Int32) (x4 : Int32) (s0 : Nat) (h : HS) : Prop := wb_X9_check_109 cl lm Q E x0 x1 x2 x3 x4 s0 1 h
theorem wk_X9_check_104 {X : Ev} {G : GG} {cl : CT} {lm : Nat × Nat} {Q : QT} {E : ET} {h0 : HS} {d2 : Nat} (C : HC X G RX9 cX9_check (d2 + 1)) (hCl : CallsOK (ev_l X) G d2 cl ∧ hLm G lm ∧ 8 ≤ d2 ∧ LamsOK (ev_l X) G d2 cl) (S0 : HS0 X h0) (hret : (ev_h X).sig.returnType = (Option.some (Jvm.ClassFile.FieldType.object "GathersAllFaults$Look"))) (hXn : ev_n X = 10) (hini : (ev_s X).methodNamed? yX9_check = some (ev_m X)) (hTb : (ev_c X).exceptionTable.toList = []) : ∀ (x0 : Nat) (x1 : Option Nat) (x2 : Int32) (x3 : Int32) (x4 : Int32) (s0 : Nat) (h : HS), wb_X9_check_104 cl lm Q E x0 x1 x2 x3 x4 s0 h → GH X G h (hQ X G h0 Q E) 104 [(0, .ref x0), (1, va_rf x1), (2, .int x2), (3, .int x3), (4, .int x4)] [.ref s0] := by
  have hlm := hCl.2.1
  have hd8 := hCl.2.2.1
  have hd2 : 1 ≤ d2 := Nat.le_trans (by decide) hd8
  have hLa := hCl.2.2.2
  have hd1 : 1 ≤ d2 + 1 := Nat.le_add_left _ _
  have hC9 := hCl
  replace hCl := hCl.1
  intro x0 x1 x2 x3 x4 s0 h hw
  unfold wb_X9_check_104 at hw
  refine gk_iconst (pc := 104) (v := 1) C.1 dX9_check_104 (by decide) ?_
  refine gk_goto (pc := 105) (tgt := 109) C.1 dX9_check_105 (by decide) ?_
  refine GK.sub (lv' := [(0, .ref x0), (1, va_rf x1), (2, .int x2), (3, .int x3), (4, .int x4)]) [0, 1, 2, 3, 4] rfl ?_
  exact wk_X9_check_109 C hC9 S0 hret hXn hini hTb  _ _ _ _ _ _ _ _ hw
def wb_X9_check_30 (cl : CT) (lm : Nat × Nat) (Q : QT) (E : ET) (x0 : Nat) (x1 : Option Nat) (x2 : Int32) (x3 : Int32) (s0 : Nat) (s1 : Int32) (h : HS) : Prop := dp_Reader_wrong cl s0 [.int s1, .int x3] h (gV (fun h_1 => dp_Reader_here cl x0 [] h_1 (gI (fun r_5 h_4 => ((r_5 = 42 → (wb_X9_check_104 cl lm Q E x0 x1 x2 x3 r_5 x0 h_4)) ∧ (¬ r_5 = 42 → (((r_5 = 35 → (wb_X9_check_104 cl lm Q E x0 x1 x2 x3 r_5 x0 h_4)) ∧ (¬ r_5 = 35 → (((r_5 = 33 → (wb_X9_check_104 cl lm Q E x0 x1 x2 x3 r_5 x0 h_4)) ∧ (¬ r_5 = 33 → (((r_5 = 126 → (wb_X9_check_104 cl lm Q E x0 x1 x2 x3 r_5 x0 h_4)) ∧ (¬ r_5 = 126 → (((r_5 = 123 → (wb_X9_check_104 cl lm Q E x0 x1 x2 x3 r_5 x0 h_4)) ∧ (¬ r_5 = 123 → (((r_5 = 64 → (wb_X9_check_104 cl lm Q E x0 x1 x2 x3 r_5 x0 h_4)) ∧ (¬ r_5 = 64 → (((r_5 = 38 → (wb_X9_check_104 cl lm Q E x0 x1 x2 x3 r_5 x0 h_4)) ∧ (¬ r_5 = 38 → (((r_5 = 47 → (wb_X9_check_104 cl lm Q E x0 x1 x2 x3 r_5 x0 h_4)) ∧ (¬ r_5 = 47 → (((¬ r_5 = 94 → (wb_X9_check_109 cl lm Q E x0 x1 x2 x3 r_5 x0 0 h_4)) ∧ (r_5 = 94 → (wb_X9_check_104 cl lm Q E x0 x1 x2 x3 r_5 x0 h_4))))))))))))))))))))))))))))) E)) E
theorem wk_X9_check_30 {X : Ev} {G : GG} {cl : CT} {lm : Nat × Nat} {Q : QT} {E : ET} {h0 : HS} {d2 : Nat} (C : HC X G RX9 cX9_check (d2 + 1)) (hCl : CallsOK (ev_l X) G d2 cl ∧ hLm G lm ∧ 8 ≤ d2 ∧ LamsOK (ev_l X) G d2 cl) (S0 : HS0 X h0) (hret : (ev_h X).sig.returnType = (Option.some (Jvm.ClassFile.FieldType.object "GathersAllFaults$Look"))) (hXn : ev_n X = 10) (hini : (ev_s X).methodNamed? yX9_check = some (ev_m X)) (hTb : (ev_c X).exceptionTable.toList = []) : ∀ (x0 : Nat) (x1 : Option Nat) (x2 : Int32) (x3 : Int32) (s0 : Nat) (s1 : Int32) (h : HS), wb_X9_check_30 cl lm Q E x0 x1 x2 x3 s0 s1 h → GH X G h (hQ X G h0 Q E) 30 [(0, .ref x0), (1, va_rf x1), (2, .int x2), (3, .int x3)] [.int s1, .ref s0] := by
  have hlm := hCl.2.1
  have hd8 := hCl.2.2.1
  have hd2 : 1 ≤ d2 := Nat.le_trans (by decide) hd8
  have hLa := hCl.2.2.2
  have hd1 : 1 ≤ d2 + 1 := Nat.le_add_left _ _
  have hC9 := hCl
  replace hCl := hCl.1
  intro x0 x1 x2 x3 s0 s1 h hw
  unfold wb_X9_check_30 at hw
  refine gk_iload_n (pc := 30) C.1 3 dX9_check_30 rfl rfl ?_
  refine gc_X9_63 (pc := 31) (As := [.int s1, .int x3]) (rest := []) C hCl (Nat.le_refl _) hw rfl rfl (Nat.le_of_ble_eq_true rfl) dX9_check_31 (fun v9 h_1 hp => ?_) (fun q_2 h_3 hw ht9 => ?_)
  rotate_left
  · exact gx_out C S0 (by rw [hTb]; decide) ht9 hw
  clear hw
  obtain ⟨rfl, hw⟩ := hp
  refine GK.at (p2 := 34) rfl ?_
  refine gk_aload_n (pc := 34) C.1 0 dX9_check_34 rfl rfl ?_
  refine gc_X9_38 (pc := 35) (As := []) (rest := []) C hCl (Nat.le_refl _) hw rfl rfl (Nat.le_of_ble_eq_true rfl) dX9_check_35 (fun v9 h_4 hp => ?_) (fun q_6 h_7 hw ht9 => ?_)
  rotate_left
  · exact gx_out C S0 (by rw [hTb]; decide) ht9 hw
  clear hw
  obtain ⟨r_5, rfl, hw⟩ := hp
  refine GK.at (p2 := 38) rfl ?_
  refine gk_istore (pc := 38) (lv' := [(4, Value.int r_5), (0, Value.ref x0), (1, va_rf x1), (2, Value.int x2), (3, Value.int x3)]) C.1 dX9_check_38 (by rw [hXn]; decide) (by first | rfl | simp [va_rf_S, va_rf_cat, cat_i, cat_a, cat_l, cat_f, fin4_0, fin4_1, fin4_2, fin4_3]) ?_
  refine gk_aload_n (pc := 40) C.1 1 dX9_check_40 rfl rfl ?_
  refine gk_iload (pc := 41) C.1 0 dX9_check_41 rfl ?_
  refine gk_bipush (pc := 43) (v := 42) C.1 dX9_check_43 (by decide) ?_
  refine gk_icmp_eq (pc := 45) (tgt := 104) C.1 dX9_check_45 (by decide) (fun c_8 => ?_) (fun c_8 => ?_)
  · replace hw := hw.1 c_8
    refine GK.sub (lv' := [(0, .ref x0), (1, va_rf x1), (2, .int x2), (3, .int x3), (4, .int r_5)]) [1, 2, 3, 4, 0] rfl ?_
    exact wk_X9_check_104 C hC9 S0 hret hXn hini hTb  _ _ _ _ _ _ _ hw
  · replace hw := hw.2 c_8
    refine gk_iload (pc := 48) C.1 0 dX9_check_48 rfl ?_
    refine gk_bipush (pc := 50) (v := 35) C.1 dX9_check_50 (by decide) ?_
    refine gk_icmp_eq (pc := 52) (tgt := 104) C.1 dX9_check_52 (by decide) (fun c_9 => ?_) (fun c_9 => ?_)
    · replace hw := hw.1 c_9
      refine GK.sub (lv' := [(0, .ref x0), (1, va_rf x1), (2, .int x2), (3, .int x3), (4, .int r_5)]) [1, 2, 3, 4, 0] rfl ?_
      exact wk_X9_check_104 C hC9 S0 hret hXn hini hTb  _ _ _ _ _ _ _ hw
    · replace hw := hw.2 c_9
      refine gk_iload (pc := 55) C.1 0 dX9_check_55 rfl ?_
      refine gk_bipush (pc := 57) (v := 33) C.1 dX9_check_57 (by decide) ?_
      refine gk_icmp_eq (pc := 59) (tgt := 104) C.1 dX9_check_59 (by decide) (fun c_10 => ?_) (fun c_10 => ?_)
      · replace hw := hw.1 c_10
        refine GK.sub (lv' := [(0, .ref x0), (1, va_rf x1), (2, .int x2), (3, .int x3), (4, .int r_5)]) [1, 2, 3, 4, 0] rfl ?_
        exact wk_X9_check_104 C hC9 S0 hret hXn hini hTb  _ _ _ _ _ _ _ hw
      · replace hw := hw.2 c_10
        refine gk_iload (pc := 62) C.1 0 dX9_check_62 rfl ?_
        refine gk_bipush (pc := 64) (v := 126) C.1 dX9_check_64 (by decide) ?_
        refine gk_icmp_eq (pc := 66) (tgt := 104) C.1 dX9_check_66 (by decide) (fun c_11 => ?_) (fun c_11 => ?_)
        · replace hw := hw.1 c_11
          refine GK.sub (lv' := [(0, .ref x0), (1, va_rf x1), (2, .int x2), (3, .int x3), (4, .int r_5)]) [1, 2, 3, 4, 0] rfl ?_
          exact wk_X9_check_104 C hC9 S0 hret hXn hini hTb  _ _ _ _ _ _ _ hw
        · replace hw := hw.2 c_11
          refine gk_iload (pc := 69) C.1 0 dX9_check_69 rfl ?_
          refine gk_bipush (pc := 71) (v := 123) C.1 dX9_check_71 (by decide) ?_
          refine gk_icmp_eq (pc := 73) (tgt := 104) C.1 dX9_check_73 (by decide) (fun c_12 => ?_) (fun c_12 => ?_)
          · replace hw := hw.1 c_12
            refine GK.sub (lv' := [(0, .ref x0), (1, va_rf x1), (2, .int x2), (3, .int x3), (4, .int r_5)]) [1, 2, 3, 4, 0] rfl ?_
            exact wk_X9_check_104 C hC9 S0 hret hXn hini hTb  _ _ _ _ _ _ _ hw
          · replace hw := hw.2 c_12
            refine gk_iload (pc := 76) C.1 0 dX9_check_76 rfl ?_
            refine gk_bipush (pc := 78) (v := 64) C.1 dX9_check_78 (by decide) ?_
            refine gk_icmp_eq (pc := 80) (tgt := 104) C.1 dX9_check_80 (by decide) (fun c_13 => ?_) (fun c_13 => ?_)
            · replace hw := hw.1 c_13
              refine GK.sub (lv' := [(0, .ref x0), (1, va_rf x1), (2, .int x2), (3, .int x3), (4, .int r_5)]) [1, 2, 3, 4, 0] rfl ?_
              exact wk_X9_check_104 C hC9 S0 hret hXn hini hTb  _ _ _ _ _ _ _ hw
            · replace hw := hw.2 c_13
              refine gk_iload (pc := 83) C.1 0 dX9_check_83 rfl ?_
              refine gk_bipush (pc := 85) (v := 38) C.1 dX9_check_85 (by decide) ?_
              refine gk_icmp_eq (pc := 87) (tgt := 104) C.1 dX9_check_87 (by decide) (fun c_14 => ?_) (fun c_14 => ?_)
              · replace hw := hw.1 c_14
                refine GK.sub (lv' := [(0, .ref x0), (1, va_rf x1), (2, .int x2), (3, .int x3), (4, .int r_5)]) [1, 2, 3, 4, 0] rfl ?_
                exact wk_X9_check_104 C hC9 S0 hret hXn hini hTb  _ _ _ _ _ _ _ hw
              · replace hw := hw.2 c_14
                refine gk_iload (pc := 90) C.1 0 dX9_check_90 rfl ?_
                refine gk_bipush (pc := 92) (v := 47) C.1 dX9_check_92 (by decide) ?_
                refine gk_icmp_eq (pc := 94) (tgt := 104) C.1 dX9_check_94 (by decide) (fun c_15 => ?_) (fun c_15 => ?_)
                · replace hw := hw.1 c_15
                  refine GK.sub (lv' := [(0, .ref x0), (1, va_rf x1), (2, .int x2), (3, .int x3), (4, .int r_5)]) [1, 2, 3, 4, 0] rfl ?_
                  exact wk_X9_check_104 C hC9 S0 hret hXn hini hTb  _ _ _ _ _ _ _ hw
                · replace hw := hw.2 c_15
                  refine gk_iload (pc := 97) C.1 0 dX9_check_97 rfl ?_
                  refine gk_bipush (pc := 99) (v := 94) C.1 dX9_check_99 (by decide) ?_
                  refine gk_icmp_ne (pc := 101) (tgt := 108) C.1 dX9_check_101 (by decide) (fun c_16 => ?_) (fun c_16 => ?_)
                  · replace hw := hw.1 c_16
                    refine gk_iconst (pc := 108) (v := 0) C.1 dX9_check_108 (by decide) ?_
                    refine GK.sub (lv' := [(0, .ref x0), (1, va_rf x1), (2, .int x2), (3, .int x3), (4, .int r_5)]) [1, 2, 3, 4, 0] rfl ?_
                    exact wk_X9_check_109 C hC9 S0 hret hXn hini hTb  _ _ _ _ _ _ _ _ hw
                  · replace hw := hw.2 c_16
                    refine GK.sub (lv' := [(0, .ref x0), (1, va_rf x1), (2, .int x2), (3, .int x3), (4, .int r_5)]) [1, 2, 3, 4, 0] rfl ?_
                    exact wk_X9_check_104 C hC9 S0 hret hXn hini hTb  _ _ _ _ _ _ _ hw
def wb_X9_check (cl : CT) (lm : Nat × Nat) (Q : QT) (E : ET) (x0 : Nat) (x1 : Option Nat) (x2 : Int32) (h : HS) : Prop := (hT h x0 = 15) ∧ (∀ x_1 : Int32, x_1 = hI h 49 x0 → ((hT h x0 = 15) ∧ ((hT h x0 = 15) ∧ (∀ h_2 : HS, h_2 = sI h 51 x0 ((hI h 51 x0) + 1) → ((hT h_2 x0 = 15) ∧ ((((hI h_2 51 x0) ≤ 24 → (wb_X9_check_30 cl lm Q E x0 x1 x2 x_1 x0 0 h_2)) ∧ (¬ (hI h_2 51 x0) ≤ 24 → (wb_X9_check_30 cl lm Q E x0 x1 x2 x_1 x0 1 h_2)))))))))
theorem wx_X9_check {l : Launch} (hst : l.stackTraces = false) {G : GG} {cl : CT} {lm : Nat × Nat} {Q : QT} {E : ET} {d2 : Nat} (hCl : CallsOK l G d2 cl ∧ hLm G lm ∧ 8 ≤ d2 ∧ LamsOK l G d2 cl) {x0 : Nat} {x1 : Option Nat} {x2 : Int32} {h : HS} (hw : wb_X9_check cl lm Q E x0 x1 x2 h) : HMet l G yX9_check (ws_ yX9_check cX9_check 10 ((Option.some (Jvm.ClassFile.FieldType.object "GathersAllFaults$Look")))) (d2 + 1) [.ref x0, va_rf x1, .int x2] h Q E := by
  refine gh_met (own := RX9) rfl (by decide +kernel) hst (by simp only [lg_sl_i, lg_sl_r, lg_sl_a, lg_sl_2, lg_sl_f, lg_sl_0]; decide) (fun X hXl hXn hret hnm hTb h0 eh C S0 => ?_)
  subst hXl
  have hlm := hCl.2.1
  have hd8 := hCl.2.2.1
  have hd2 : 1 ≤ d2 := Nat.le_trans (by decide) hd8
  have hLa := hCl.2.2.2
  have hd1 : 1 ≤ d2 + 1 := Nat.le_add_left _ _
  have hC9 := hCl
  replace hCl := hCl.1
  have hini : (ev_s X).methodNamed? yX9_check = some (ev_m X) := hnm.2
  unfold wb_X9_check at hw
  refine GK.sub (lv' := [(0, .ref x0), (1, va_rf x1), (2, .int x2)]) [0, 1, 2] (by simp only [lv_args_i, lv_args_r, lv_args_a, lv_args_l, lv_args_f, lv_args_0]; rfl) ?_
  refine gk_aload_n (pc := 0) C.1 0 dX9_check_0 rfl rfl ?_
  obtain ⟨ht, hw⟩ := hw
  refine gf_X9_26 (pc := 1) C ht dX9_check_1 ?_
  obtain ⟨x_1, ex_1⟩ : ∃ z : Int32, z = hI h 49 x0 := ⟨_, rfl⟩
  rw [← ex_1]
  replace hw := hw x_1 ex_1
  refine gk_istore_n (pc := 4) (lv' := [(3, Value.int x_1), (0, Value.ref x0), (1, va_rf x1), (2, Value.int x2)]) C.1 dX9_check_4 rfl (by rw [hXn]; decide) (by first | rfl | simp [va_rf_S, va_rf_cat, cat_i, cat_a, cat_l, cat_f, fin4_0, fin4_1, fin4_2, fin4_3]) ?_
  refine gk_aload_n (pc := 5) C.1 1 dX9_check_5 rfl rfl ?_
  refine gk_dup (pc := 6) C.1 dX9_check_6 rfl ?_
  obtain ⟨ht, hw⟩ := hw
  refine gf_X9_134 (pc := 7) C ht dX9_check_7 ?_
  refine gk_iconst (pc := 10) (v := 1) C.1 dX9_check_10 (by decide) ?_
  refine gk_iadd (pc := 11) C.1 dX9_check_11 ?_
  obtain ⟨ht, hw⟩ := hw
  refine gfp_X9_134 (pc := 12) C ht dX9_check_12 (fun h_2 eh_2 => ?_)
  replace hw := hw h_2 eh_2
  refine gk_aload_n (pc := 15) C.1 1 dX9_check_15 rfl rfl ?_
  refine gk_aload_n (pc := 16) C.1 1 dX9_check_16 rfl rfl ?_
  obtain ⟨ht, hw⟩ := hw
  refine gf_X9_134 (pc := 17) C ht dX9_check_17 ?_
  refine gk_bipush (pc := 20) (v := 24) C.1 dX9_check_20 (by decide) ?_
  refine gk_icmp_le (pc := 22) (tgt := 29) C.1 dX9_check_22 (by decide) (fun c_3 => ?_) (fun c_3 => ?_)
  · replace hw := hw.1 c_3
    refine gk_iconst (pc := 29) (v := 0) C.1 dX9_check_29 (by decide) ?_
    refine GK.sub (lv' := [(0, .ref x0), (1, va_rf x1), (2, .int x2), (3, .int x_1)]) [1, 2, 3, 0] rfl ?_
    exact wk_X9_check_30 C hC9 S0 hret hXn hini hTb  _ _ _ _ _ _ _ hw
  · replace hw := hw.2 c_3
    refine gk_iconst (pc := 25) (v := 1) C.1 dX9_check_25 (by decide) ?_
    refine gk_goto (pc := 26) (tgt := 30) C.1 dX9_check_26 (by decide) ?_
    refine GK.sub (lv' := [(0, .ref x0), (1, va_rf x1), (2, .int x2), (3, .int x_1)]) [1, 2, 3, 0] rfl ?_
    exact wk_X9_check_30 C hC9 S0 hret hXn hini hTb  _ _ _ _ _ _ _ hw
/-! 178: GathersAllFaults$Reader.digit()I -/
def wb_X9_digit (cl : CT) (lm : Nat × Nat) (Q : QT) (E : ET) (x0 : Nat) (h : HS) : Prop := dp_Reader_here cl x0 [] h (gI (fun r_2 h_1 => cl 78 [.long ((r_2 : Int32).toInt64), .long 48, .long 57] h_1 (gI (fun r_6 h_5 => dp_Reader_mustStand cl x0 [.int r_6] h_5 (gV (fun h_9 => (hT h_9 x0 = 15) ∧ ((hT h_9 x0 = 15) ∧ (∀ h_12 : HS, h_12 = sI h_9 49 x0 ((hI h_9 49 x0) + 1) → ((hT h_12 x0 = 15) ∧ (∀ r_13 : Option Nat, r_13 = hR h_12 54 x0 → (∃ a_14 : Nat, r_13 = some a_14 ∧ ((hT h_12 a_14 = 1) ∧ (∀ r_15 : Option Nat, r_15 = hR h_12 7 a_14 → ((hT h_12 x0 = 15) ∧ (∃ a_16 : Nat, r_15 = some a_16 ∧ (hT h_12 a_16 = 103 ∧ (vp_in ((hI h_12 49 x0) - 1) (hN h_12 a_16) ∧ (Q (some (.int ((hA h_12 a_16 ((hI h_12 49 x0) - 1).toNatClampNeg) - 48))) h_12)))))))))))))) E)) E)) E
theorem wx_X9_digit {l : Launch} (hst : l.stackTraces = false) {G : GG} {cl : CT} {lm : Nat × Nat} {Q : QT} {E : ET} {d2 : Nat} (hCl : CallsOK l G d2 cl ∧ hLm G lm ∧ 8 ≤ d2 ∧ LamsOK l G d2 cl) {x0 : Nat} {h : HS} (hw : wb_X9_digit cl lm Q E x0 h) : HMet l G yX9_digit (ws_ yX9_digit cX9_digit 1 ((Option.some Jvm.ClassFile.FieldType.int))) (d2 + 1) [.ref x0] h Q E := by
  refine gh_met (own := RX9) rfl (by decide +kernel) hst (by simp only [lg_sl_i, lg_sl_r, lg_sl_a, lg_sl_2, lg_sl_f, lg_sl_0]; decide) (fun X hXl hXn hret hnm hTb h0 eh C S0 => ?_)
  subst hXl
  have hlm := hCl.2.1
  have hd8 := hCl.2.2.1
  have hd2 : 1 ≤ d2 := Nat.le_trans (by decide) hd8
  have hLa := hCl.2.2.2
  have hd1 : 1 ≤ d2 + 1 := Nat.le_add_left _ _
  have hC9 := hCl
  replace hCl := hCl.1
  have hini : True := trivial
  unfold wb_X9_digit at hw
  refine GK.sub (lv' := [(0, .ref x0)]) [0] (by simp only [lv_args_i, lv_args_r, lv_args_a, lv_args_l, lv_args_f, lv_args_0]; rfl) ?_
  refine gk_aload_n (pc := 0) C.1 0 dX9_digit_0 rfl rfl ?_
  refine gk_aload_n (pc := 1) C.1 0 dX9_digit_1 rfl rfl ?_
  refine gc_X9_38 (pc := 2) (As := []) (rest := [.ref x0]) C hCl (Nat.le_refl _) hw rfl rfl (Nat.le_of_ble_eq_true rfl) dX9_digit_2 (fun v9 h_1 hp => ?_) (fun q_3 h_4 hw ht9 => ?_)
  rotate_left
  · exact gx_out C S0 (by rw [hTb]; decide) ht9 hw
  clear hw
  obtain ⟨r_2, rfl, hw⟩ := hp
  refine GK.at (p2 := 5) rfl ?_
  refine gk_i2l (pc := 5) C.1 dX9_digit_5 ?_
  refine gk_ldc2 (pc := 6) (v := 48) C.1 q463 dX9_digit_6 ?_
  refine gk_ldc2 (pc := 9) (v := 57) C.1 q464 dX9_digit_9 ?_
  refine gc_X9_50 (pc := 12) (As := [.long ((r_2 : Int32).toInt64), .long 48, .long 57]) (rest := [.ref x0]) C hCl (Nat.le_refl _) hw rfl rfl (Nat.le_of_ble_eq_true rfl) dX9_digit_12 (fun v9 h_5 hp => ?_) (fun q_7 h_8 hw ht9 => ?_)
  rotate_left
  · exact gx_out C S0 (by rw [hTb]; decide) ht9 hw
  clear hw
  obtain ⟨r_6, rfl, hw⟩ := hp
  refine GK.at (p2 := 15) rfl ?_
  refine gc_X9_42 (pc := 15) (As := [.int r_6]) (rest := []) C hCl (Nat.le_refl _) hw rfl rfl (Nat.le_of_ble_eq_true rfl) dX9_digit_15 (fun v9 h_9 hp => ?_) (fun q_10 h_11 hw ht9 => ?_)
  rotate_left
  · exact gx_out C S0 (by rw [hTb]; decide) ht9 hw
  clear hw
  obtain ⟨rfl, hw⟩ := hp
  refine GK.at (p2 := 18) rfl ?_
  refine gk_aload_n (pc := 18) C.1 0 dX9_digit_18 rfl rfl ?_
  refine gk_dup (pc := 19) C.1 dX9_digit_19 rfl ?_
  obtain ⟨ht, hw⟩ := hw
  refine gf_X9_26 (pc := 20) C ht dX9_digit_20 ?_
  refine gk_iconst (pc := 23) (v := 1) C.1 dX9_digit_23 (by decide) ?_
  refine gk_iadd (pc := 24) C.1 dX9_digit_24 ?_
  obtain ⟨ht, hw⟩ := hw
  refine gfp_X9_26 (pc := 25) C ht dX9_digit_25 (fun h_12 eh_12 => ?_)
  replace hw := hw h_12 eh_12
  refine gk_aload_n (pc := 28) C.1 0 dX9_digit_28 rfl rfl ?_
  obtain ⟨ht, hw⟩ := hw
  refine gf_X9_3 (pc := 29) C ht dX9_digit_29 (fun r_13 er_13 => ?_)
  replace hw := hw r_13 er_13
  obtain ⟨a_14, rfl, hw⟩ := hw
  obtain ⟨ht, hw⟩ := hw
  refine gf_X9_29 (pc := 32) C ht dX9_digit_32 (fun r_15 er_15 => ?_)
  replace hw := hw r_15 er_15
  refine gk_aload_n (pc := 35) C.1 0 dX9_digit_35 rfl rfl ?_
  obtain ⟨ht, hw⟩ := hw
  refine gf_X9_26 (pc := 36) C ht dX9_digit_36 ?_
  refine gk_iconst (pc := 39) (v := 1) C.1 dX9_digit_39 (by decide) ?_
  refine gk_isub (pc := 40) C.1 dX9_digit_40 ?_
  obtain ⟨a_16, rfl, hw⟩ := hw
  obtain ⟨ht, hi, hw⟩ := hw
  refine gh_cald (pc := 41) C ht hi dX9_digit_41 ?_
  refine gk_bipush (pc := 42) (v := 48) C.1 dX9_digit_42 (by decide) ?_
  refine gk_isub (pc := 44) C.1 dX9_digit_44 ?_
  exact gh_iret (pc := 45) C S0 hret dX9_digit_45 hw
/-! 179: GathersAllFaults$Reader.end()V -/
def wb_X9_end_17 (cl : CT) (lm : Nat × Nat) (Q : QT) (E : ET) (x0 : Nat) (s0 : Nat) (s1 : Int32) (h : HS) : Prop := dp_Reader_mustStand cl s0 [.int s1] h (gV (fun h_1 => (hT h_1 x0 = 15) ∧ (((1000000 ≤ (hI h_1 53 x0) → (Q none h_1)) ∧ (¬ 1000000 ≤ (hI h_1 53 x0) → (hZ h_1 + 1 ≤ lm.1 ∧ (hL h_1 + 7 ≤ lm.2 ∧ (∀ (a_6 : Nat) (h_5 : HS), a_6 = hZ h_1 → h_5 = hNew h_1 17 0 7 → ((hT h_5 x0 = 15) ∧ (cl 195 (.ref a_6 :: [.int ((-2000) - (hI h_5 53 x0))]) h_5 (gV (fun h_7 => (hT h_7 a_6 = 16 ∨ hT h_7 a_6 = 17) ∧ (E a_6 h_7))) E)))))))))) E
theorem wk_X9_end_17 {X : Ev} {G : GG} {cl : CT} {lm : Nat × Nat} {Q : QT} {E : ET} {h0 : HS} {d2 : Nat} (C : HC X G RX9 cX9_end (d2 + 1)) (hCl : CallsOK (ev_l X) G d2 cl ∧ hLm G lm ∧ 8 ≤ d2 ∧ LamsOK (ev_l X) G d2 cl) (S0 : HS0 X h0) (hret : (ev_h X).sig.returnType = (Option.none : Option Jvm.ClassFile.FieldType)) (hXn : ev_n X = 1) (hini : True) (hTb : (ev_c X).exceptionTable.toList = []) : ∀ (x0 : Nat) (s0 : Nat) (s1 : Int32) (h : HS), wb_X9_end_17 cl lm Q E x0 s0 s1 h → GH X G h (hQ X G h0 Q E) 17 [(0, .ref x0)] [.int s1, .ref s0] := by
  have hlm := hCl.2.1
  have hd8 := hCl.2.2.1
  have hd2 : 1 ≤ d2 := Nat.le_trans (by decide) hd8
  have hLa := hCl.2.2.2
  have hd1 : 1 ≤ d2 + 1 := Nat.le_add_left _ _
  have hC9 := hCl
  replace hCl := hCl.1
  intro x0 s0 s1 h hw
  unfold wb_X9_end_17 at hw
  refine gc_X9_42 (pc := 17) (As := [.int s1]) (rest := []) C hCl (Nat.le_refl _) hw rfl rfl (Nat.le_of_ble_eq_true rfl) dX9_end_17 (fun v9 h_1 hp => ?_) (fun q_2 h_3 hw ht9 => ?_)
  rotate_left
  · exact gx_out C S0 (by rw [hTb]; decide) ht9 hw
  clear hw
  obtain ⟨rfl, hw⟩ := hp
  refine GK.at (p2 := 20) rfl ?_
  refine gk_aload_n (pc := 20) C.1 0 dX9_end_20 rfl rfl ?_
  obtain ⟨ht, hw⟩ := hw
  refine gf_X9_23 (pc := 21) C ht dX9_end_21 ?_
  refine gk_ldc (pc := 24) (v := 1000000) C.1 q424 dX9_end_24 ?_
  refine gk_icmp_ge (pc := 26) (tgt := 45) C.1 dX9_end_26 (by decide) (fun c_4 => ?_) (fun c_4 => ?_)
  · replace hw := hw.1 c_4
    exact gh_vret (pc := 45) C S0 hret dX9_end_45 hw
  · replace hw := hw.2 c_4
    obtain ⟨hr1, hr2, hw⟩ := hw
    refine gn_X9_33 (pc := 29) C (hlm.1 ▸ hr1) (hlm.2 ▸ hr2) dX9_end_29 (fun h_5 eh_5 => ?_)
    obtain ⟨a_6, ea_6⟩ : ∃ z : Nat, z = hZ h_1 := ⟨_, rfl⟩
    rw [← ea_6]
    replace hw := hw a_6 h_5 ea_6 eh_5
    refine gk_dup (pc := 32) C.1 dX9_end_32 rfl ?_
    refine gk_sipush (pc := 33) (v := (-2000)) C.1 dX9_end_33 (by decide) ?_
    refine gk_aload_n (pc := 36) C.1 0 dX9_end_36 rfl rfl ?_
    obtain ⟨ht, hw⟩ := hw
    refine gf_X9_23 (pc := 37) C ht dX9_end_37 ?_
    refine gk_isub (pc := 40) C.1 dX9_end_40 ?_
    refine gc_X9_35 (pc := 41) (As := [.int ((-2000) - (hI h_5 53 x0))]) (rest := [.ref a_6]) C hCl (Nat.le_refl _) hw rfl rfl (Nat.le_of_ble_eq_true rfl) dX9_end_41 (fun v9 h_7 hp => ?_) (fun q_8 h_9 hw ht9 => ?_)
    rotate_left
    · exact gx_out C S0 (by rw [hTb]; decide) ht9 hw
    clear hw
    obtain ⟨rfl, hw⟩ := hp
    refine GK.at (p2 := 44) rfl ?_
    refine gh_athrow (pc := 44) C dX9_end_44 ?_
    obtain ⟨ht9, hw⟩ := hw
    exact gx_out C S0 (by rw [hTb]; decide) ht9 hw
def wb_X9_end (cl : CT) (lm : Nat × Nat) (Q : QT) (E : ET) (x0 : Nat) (h : HS) : Prop := (hT h x0 = 15) ∧ ((hT h x0 = 15) ∧ (((¬ (hI h 49 x0) = (hI h 48 x0) → (wb_X9_end_17 cl lm Q E x0 x0 0 h)) ∧ ((hI h 49 x0) = (hI h 48 x0) → (wb_X9_end_17 cl lm Q E x0 x0 1 h)))))
theorem wx_X9_end {l : Launch} (hst : l.stackTraces = false) {G : GG} {cl : CT} {lm : Nat × Nat} {Q : QT} {E : ET} {d2 : Nat} (hCl : CallsOK l G d2 cl ∧ hLm G lm ∧ 8 ≤ d2 ∧ LamsOK l G d2 cl) {x0 : Nat} {h : HS} (hw : wb_X9_end cl lm Q E x0 h) : HMet l G yX9_end (ws_ yX9_end cX9_end 1 ((Option.none : Option Jvm.ClassFile.FieldType))) (d2 + 1) [.ref x0] h Q E := by
  refine gh_met (own := RX9) rfl (by decide +kernel) hst (by simp only [lg_sl_i, lg_sl_r, lg_sl_a, lg_sl_2, lg_sl_f, lg_sl_0]; decide) (fun X hXl hXn hret hnm hTb h0 eh C S0 => ?_)
  subst hXl
  have hlm := hCl.2.1
  have hd8 := hCl.2.2.1
  have hd2 : 1 ≤ d2 := Nat.le_trans (by decide) hd8
  have hLa := hCl.2.2.2
  have hd1 : 1 ≤ d2 + 1 := Nat.le_add_left _ _
  have hC9 := hCl
  replace hCl := hCl.1
  have hini : True := trivial
  unfold wb_X9_end at hw
  refine GK.sub (lv' := [(0, .ref x0)]) [0] (by simp only [lv_args_i, lv_args_r, lv_args_a, lv_args_l, lv_args_f, lv_args_0]; rfl) ?_
  refine gk_aload_n (pc := 0) C.1 0 dX9_end_0 rfl rfl ?_
  refine gk_aload_n (pc := 1) C.1 0 dX9_end_1 rfl rfl ?_
  obtain ⟨ht, hw⟩ := hw
  refine gf_X9_26 (pc := 2) C ht dX9_end_2 ?_
  refine gk_aload_n (pc := 5) C.1 0 dX9_end_5 rfl rfl ?_
  obtain ⟨ht, hw⟩ := hw
  refine gf_X9_19 (pc := 6) C ht dX9_end_6 ?_
  refine gk_icmp_ne (pc := 9) (tgt := 16) C.1 dX9_end_9 (by decide) (fun c_1 => ?_) (fun c_1 => ?_)
  · replace hw := hw.1 c_1
    refine gk_iconst (pc := 16) (v := 0) C.1 dX9_end_16 (by decide) ?_
    refine GK.sub (lv' := [(0, .ref x0)]) [0] rfl ?_
    exact wk_X9_end_17 C hC9 S0 hret hXn hini hTb  _ _ _ _ hw
  · replace hw := hw.2 c_1
    refine gk_iconst (pc := 12) (v := 1) C.1 dX9_end_12 (by decide) ?_
    refine gk_goto (pc := 13) (tgt := 17) C.1 dX9_end_13 (by decide) ?_
    refine GK.sub (lv' := [(0, .ref x0)]) [0] rfl ?_
    exact wk_X9_end_17 C hC9 S0 hret hXn hini hTb  _ _ _ _ hw
