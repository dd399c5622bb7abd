set_option maxRecDepth 100000
/-! 40: java/util/LinkedHashMap$LinkedHashIterator.nextNode()Ljava/util/LinkedHashMap$Entry; -/
def wb_J18_nextNode_63 (cl : CT) (lm : Nat × Nat) (Q : QT) (E : ET) (x1 : Option Nat) (s0 : Nat) (s1 : Option Nat) (h : HS) : Prop := (hT h s0 = 24) ∧ (∀ h_1 : HS, h_1 = sR h 79 s0 s1 → (Q (some (va_rf x1)) h_1))
theorem wk_J18_nextNode_63 {X : Ev} {G : GG} {cl : CT} {lm : Nat × Nat} {Q : QT} {E : ET} {h0 : HS} {d2 : Nat} (C : HC X G RJ18 cJ18_nextNode (d2 + 1)) (hCl : CallsOK (ev_l X) G d2 cl ∧ hLm G lm ∧ 8 ≤ d2 ∧ LamsOK (ev_l X) G d2 cl) (S0 : HS0 X h0) (hret : (ev_h X).sig.returnType = (Option.some (Jvm.ClassFile.FieldType.object "java/util/LinkedHashMap$Entry"))) (hXn : ev_n X = 2) (hini : True) (hTb : (ev_c X).exceptionTable.toList = []) : ∀ (x1 : Option Nat) (s0 : Nat) (s1 : Option Nat) (h : HS), wb_J18_nextNode_63 cl lm Q E x1 s0 s1 h → GH X G h (hQ X G h0 Q E) 63 [(1, va_rf x1)] [va_rf s1, .ref s0] := by
  have hlm := hCl.2.1
  have hd8 := hCl.2.2.1
  have hd2 : 1 ≤ d2 := Nat.le_trans (by decide) hd8
  have hLa := hCl.2.2.2
  have hd1 : 1 ≤ d2 + 1 := Nat.le_add_left _ _
  have hC9 := hCl
  replace hCl := hCl.1
  intro x1 s0 s1 h hw
  unfold wb_J18_nextNode_63 at hw
  obtain ⟨ht, hw⟩ := hw
  refine gfp_J18_26 (pc := 63) (r := s1) C ht dJ18_nextNode_63 (fun h_1 eh_1 => ?_)
  replace hw := hw h_1 eh_1
  refine gk_qload_n (pc := 66) C.1 0 dJ18_nextNode_66 rfl rfl ?_
  exact gh_aret (pc := 67) (r := x1) C S0 hret (Or.inl ⟨_, rfl⟩) dJ18_nextNode_67 hw
def wb_J18_nextNode (cl : CT) (lm : Nat × Nat) (Q : QT) (E : ET) (x0 : Nat) (h : HS) : Prop := (hT h x0 = 24) ∧ (∀ r_1 : Option Nat, r_1 = hR h 79 x0 → ((hT h x0 = 24) ∧ (∀ r_2 : Option Nat, r_2 = hR h 83 x0 → (∃ a_3 : Nat, r_2 = some a_3 ∧ ((hT h a_3 = 19 ∨ hT h a_3 = 20) ∧ ((hT h x0 = 24) ∧ ((((hI h 64 a_3) = (hI h 81 x0) → ((r_1 = none → (False)) ∧ (∀ a_6 : Nat, r_1 = some a_6 → ((hT h x0 = 24) ∧ (∀ h_7 : HS, h_7 = sR h 80 x0 (some a_6) → ((hT h_7 x0 = 24) ∧ ((((hI h_7 82 x0) = 0 → ((hT h_7 a_6 = 22) ∧ (∀ r_9 : Option Nat, r_9 = hR h_7 76 a_6 → (wb_J18_nextNode_63 cl lm Q E (some a_6) x0 r_9 h_7)))) ∧ (¬ (hI h_7 82 x0) = 0 → ((hT h_7 a_6 = 22) ∧ (∀ r_10 : Option Nat, r_10 = hR h_7 75 a_6 → (wb_J18_nextNode_63 cl lm Q E (some a_6) x0 r_10 h_7)))))))))))) ∧ (¬ (hI h 64 a_3) = (hI h 81 x0) → (False))))))))))
theorem wx_J18_nextNode {l : Launch} (hst : l.stackTraces = false) {G : GG} {cl : CT} {lm : Nat × Nat} {Q : QT} {E : ET} {d2 : Nat} (hCl : CallsOK l G d2 cl ∧ hLm G lm ∧ 8 ≤ d2 ∧ LamsOK l G d2 cl) {x0 : Nat} {h : HS} (hw : wb_J18_nextNode cl lm Q E x0 h) : HMet l G yJ18_nextNode (ws_ yJ18_nextNode cJ18_nextNode 2 ((Option.some (Jvm.ClassFile.FieldType.object "java/util/LinkedHashMap$Entry")))) (d2 + 1) [.ref x0] h Q E := by
  refine gh_met (own := RJ18) rfl (by decide +kernel) hst (by simp only [lg_sl_i, lg_sl_r, lg_sl_a, lg_sl_2, lg_sl_f, lg_sl_0]; decide) (fun X hXl hXn hret hnm hTb h0 eh C S0 => ?_)
  subst hXl
  have hlm := hCl.2.1
  have hd8 := hCl.2.2.1
  have hd2 : 1 ≤ d2 := Nat.le_trans (by decide) hd8
  have hLa := hCl.2.2.2
  have hd1 : 1 ≤ d2 + 1 := Nat.le_add_left _ _
  have hC9 := hCl
  replace hCl := hCl.1
  have hini : True := trivial
  unfold wb_J18_nextNode at hw
  refine GK.sub (lv' := [(0, .ref x0)]) [0] (by simp only [lv_args_i, lv_args_r, lv_args_a, lv_args_l, lv_args_f, lv_args_0]; rfl) ?_
  refine gk_aload_n (pc := 0) C.1 0 dJ18_nextNode_0 rfl rfl ?_
  obtain ⟨ht, hw⟩ := hw
  refine gf_J18_26 (pc := 1) C ht dJ18_nextNode_1 (fun r_1 er_1 => ?_)
  replace hw := hw r_1 er_1
  refine gk_qstore_n (pc := 4) (lv' := [(1, va_rf r_1), (0, Value.ref x0)]) C.1 dJ18_nextNode_4 rfl (by rw [hXn]; decide) (by first | rfl | simp [va_rf_S, va_rf_cat, cat_i, cat_a, cat_l, cat_f, fin4_0, fin4_1, fin4_2, fin4_3]) ?_
  refine gk_aload_n (pc := 5) C.1 1 dJ18_nextNode_5 rfl rfl ?_
  obtain ⟨ht, hw⟩ := hw
  refine gf_J18_1 (pc := 6) C ht dJ18_nextNode_6 (fun r_2 er_2 => ?_)
  replace hw := hw r_2 er_2
  obtain ⟨a_3, rfl, hw⟩ := hw
  obtain ⟨ht, hw⟩ := hw
  refine gf_J18_29 (pc := 9) C ht dJ18_nextNode_9 ?_
  refine gk_aload_n (pc := 12) C.1 1 dJ18_nextNode_12 rfl rfl ?_
  obtain ⟨ht, hw⟩ := hw
  refine gf_J18_33 (pc := 13) C ht dJ18_nextNode_13 ?_
  refine gk_icmp_eq (pc := 16) (tgt := 27) C.1 dJ18_nextNode_16 (by decide) (fun c_4 => ?_) (fun c_4 => ?_)
  · replace hw := hw.1 c_4
    refine gk_qload_n (pc := 27) C.1 0 dJ18_nextNode_27 rfl rfl ?_
    refine gk_ifnonnull (pc := 28) (tgt := 39) C.1 dJ18_nextNode_28 (by decide) (fun c_5 => ?_) (fun c_5 => ?_)
    · obtain ⟨a_6, c_5⟩ := Option.ne_none_iff_exists'.mp c_5
      replace hw := hw.2 a_6 c_5
      subst c_5
      refine gk_aload_n (pc := 39) C.1 1 dJ18_nextNode_39 rfl rfl ?_
      refine gk_aload_n (pc := 40) C.1 0 dJ18_nextNode_40 rfl rfl ?_
      obtain ⟨ht, hw⟩ := hw
      refine gfp_J18_36 (pc := 41) (r := (some a_6)) C ht dJ18_nextNode_41 (fun h_7 eh_7 => ?_)
      replace hw := hw h_7 eh_7
      refine gk_aload_n (pc := 44) C.1 1 dJ18_nextNode_44 rfl rfl ?_
      refine gk_aload_n (pc := 45) C.1 1 dJ18_nextNode_45 rfl rfl ?_
      obtain ⟨ht, hw⟩ := hw
      refine gf_J18_13 (pc := 46) C ht dJ18_nextNode_46 ?_
      refine gk_if_eq (pc := 49) (tgt := 59) C.1 dJ18_nextNode_49 (by decide) (fun c_8 => ?_) (fun c_8 => ?_)
      · replace hw := hw.1 c_8
        refine gk_aload_n (pc := 59) C.1 0 dJ18_nextNode_59 rfl rfl ?_
        obtain ⟨ht, hw⟩ := hw
        refine gf_J18_50 (pc := 60) C ht dJ18_nextNode_60 (fun r_9 er_9 => ?_)
        replace hw := hw r_9 er_9
        refine GK.sub (lv' := [(1, va_rf (some a_6))]) [0] rfl ?_
        exact wk_J18_nextNode_63 C hC9 S0 hret hXn hini hTb  _ _ _ _ hw
      · replace hw := hw.2 c_8
        refine gk_aload_n (pc := 52) C.1 0 dJ18_nextNode_52 rfl rfl ?_
        obtain ⟨ht, hw⟩ := hw
        refine gf_J18_45 (pc := 53) C ht dJ18_nextNode_53 (fun r_10 er_10 => ?_)
        replace hw := hw r_10 er_10
        refine gk_goto (pc := 56) (tgt := 63) C.1 dJ18_nextNode_56 (by decide) ?_
        refine GK.sub (lv' := [(1, va_rf (some a_6))]) [0] rfl ?_
        exact wk_J18_nextNode_63 C hC9 S0 hret hXn hini hTb  _ _ _ _ hw
    · replace hw := hw.1 c_5
      subst c_5
      exact hw.elim
  · replace hw := hw.2 c_4
    exact hw.elim
/-! 41: java/util/LinkedHashMap$LinkedKeyIterator.<init>(Ljava/util/LinkedHashMap;Z)V -/
def wb_J19_init (cl : CT) (lm : Nat × Nat) (Q : QT) (E : ET) (x0 : Nat) (x1 : Option Nat) (x2 : Int32) (h : HS) : Prop := cl 39 (.ref x0 :: [va_rf x1, .int x2]) h (gV (fun h_1 => Q none h_1)) E
theorem wx_J19_init {l : Launch} (hst : l.stackTraces = false) {G : GG} {cl : CT} {lm : Nat × Nat} {Q : QT} {E : ET} {d2 : Nat} (hCl : CallsOK l G d2 cl ∧ hLm G lm ∧ 8 ≤ d2 ∧ LamsOK l G d2 cl) {x0 : Nat} {x1 : Option Nat} {x2 : Int32} {h : HS} (hw : wb_J19_init cl lm Q E x0 x1 x2 h) : HMet l G yJ19_init (ws_ yJ19_init cJ19_init 3 ((Option.none : Option Jvm.ClassFile.FieldType))) (d2 + 1) [.ref x0, va_rf x1, .int x2] h Q E := by
  refine gh_met (own := RJ19) rfl (by decide +kernel) hst (by simp only [lg_sl_i, lg_sl_r, lg_sl_a, lg_sl_2, lg_sl_f, lg_sl_0]; decide) (fun X hXl hXn hret hnm hTb h0 eh C S0 => ?_)
  subst hXl
  have hlm := hCl.2.1
  have hd8 := hCl.2.2.1
  have hd2 : 1 ≤ d2 := Nat.le_trans (by decide) hd8
  have hLa := hCl.2.2.2
  have hd1 : 1 ≤ d2 + 1 := Nat.le_add_left _ _
  have hC9 := hCl
  replace hCl := hCl.1
  have hini : (ev_h X).name = "<init>" := hnm.1
  unfold wb_J19_init at hw
  refine GK.sub (lv' := [(0, .ref x0), (1, va_rf x1), (2, .int x2)]) [0, 1, 2] (by simp only [lv_args_i, lv_args_r, lv_args_a, lv_args_l, lv_args_f, lv_args_0]; rfl) ?_
  refine gk_aload_n (pc := 0) C.1 0 dJ19_init_0 rfl rfl ?_
  refine gk_qload_n (pc := 1) C.1 1 dJ19_init_1 rfl rfl ?_
  refine gk_iload_n (pc := 2) C.1 2 dJ19_init_2 rfl rfl ?_
  refine gc_J19_1 (pc := 3) (As := [va_rf x1, .int x2]) (rest := []) C hCl (Nat.le_refl _) hw rfl rfl (Nat.le_of_ble_eq_true rfl) dJ19_init_3 (fun v9 h_1 hp => ?_) (fun q_2 h_3 hw ht9 => ?_)
  rotate_left
  · exact gx_out C S0 (by rw [hTb]; decide) ht9 hw
  clear hw
  obtain ⟨rfl, hw⟩ := hp
  refine GK.at (p2 := 6) rfl ?_
  exact gh_vret (pc := 6) C S0 hret dJ19_init_6 hw
/-! 42: java/util/LinkedHashMap$LinkedKeyIterator.next()Ljava/lang/Object; -/
def wb_J19_next (cl : CT) (lm : Nat × Nat) (Q : QT) (E : ET) (x0 : Nat) (h : HS) : Prop := dp_LinkedKeyIterator_nextNode cl x0 [] h (gR (fun r_2 h_1 => ∃ a_5 : Nat, r_2 = some a_5 ∧ (dp_Entry_getKey cl a_5 [] h_1 (gR (fun r_7 h_6 => Q (some (va_rf r_7)) h_6)) E))) E
theorem wx_J19_next {l : Launch} (hst : l.stackTraces = false) {G : GG} {cl : CT} {lm : Nat × Nat} {Q : QT} {E : ET} {d2 : Nat} (hCl : CallsOK l G d2 cl ∧ hLm G lm ∧ 8 ≤ d2 ∧ LamsOK l G d2 cl) {x0 : Nat} {h : HS} (hw : wb_J19_next cl lm Q E x0 h) : HMet l G yJ19_next (ws_ yJ19_next cJ19_next 1 ((Option.some (Jvm.ClassFile.FieldType.object "java/lang/Object")))) (d2 + 1) [.ref x0] h Q E := by
  refine gh_met (own := RJ19) rfl (by decide +kernel) hst (by simp only [lg_sl_i, lg_sl_r, lg_sl_a, lg_sl_2, lg_sl_f, lg_sl_0]; decide) (fun X hXl hXn hret hnm hTb h0 eh C S0 => ?_)
  subst hXl
  have hlm := hCl.2.1
  have hd8 := hCl.2.2.1
  have hd2 : 1 ≤ d2 := Nat.le_trans (by decide) hd8
  have hLa := hCl.2.2.2
  have hd1 : 1 ≤ d2 + 1 := Nat.le_add_left _ _
  have hC9 := hCl
  replace hCl := hCl.1
  have hini : True := trivial
  unfold wb_J19_next at hw
  refine GK.sub (lv' := [(0, .ref x0)]) [0] (by simp only [lv_args_i, lv_args_r, lv_args_a, lv_args_l, lv_args_f, lv_args_0]; rfl) ?_
  refine gk_aload_n (pc := 0) C.1 0 dJ19_next_0 rfl rfl ?_
  refine gc_J19_7 (pc := 1) (As := []) (rest := []) C hCl (Nat.le_refl _) hw rfl rfl (Nat.le_of_ble_eq_true rfl) dJ19_next_1 (fun v9 h_1 hp => ?_) (fun q_3 h_4 hw ht9 => ?_)
  rotate_left
  · exact gx_out C S0 (by rw [hTb]; decide) ht9 hw
  clear hw
  obtain ⟨r_2, rfl, hw⟩ := hp
  refine GK.at (p2 := 4) rfl ?_
  obtain ⟨a_5, rfl, hw⟩ := hw
  refine gc_J19_13 (pc := 4) (As := []) (rest := []) C hCl (Nat.le_refl _) hw rfl rfl (Nat.le_of_ble_eq_true rfl) dJ19_next_4 (fun v9 h_6 hp => ?_) (fun q_8 h_9 hw ht9 => ?_)
  rotate_left
  · exact gx_out C S0 (by rw [hTb]; decide) ht9 hw
  clear hw
  obtain ⟨r_7, rfl, hw⟩ := hp
  refine GK.at (p2 := 7) rfl ?_
  exact gh_aret (pc := 7) (r := r_7) C S0 hret (Or.inl ⟨_, rfl⟩) dJ19_next_7 hw
/-! 43: java/util/HashSet.add(Ljava/lang/Object;)Z -/
def wb_J23_add (cl : CT) (lm : Nat × Nat) (Q : QT) (E : ET) (x0 : Nat) (x1 : Option Nat) (h : HS) : Prop := (hT h x0 = 25) ∧ (∀ r_1 : Option Nat, r_1 = hR h 84 x0 → (∀ a_2 : Nat, (∃ a_3 : Nat, r_1 = some a_3 ∧ (dp_HashMap_put cl a_3 [va_rf x1, .ref a_2] h (gR (fun r_5 h_4 => (r_5 = none → (Q (some (.int 1)) h_4)) ∧ (∀ a_9 : Nat, r_5 = some a_9 → (Q (some (.int 0)) h_4)))) E))))
theorem wx_J23_add {l : Launch} (hst : l.stackTraces = false) {G : GG} {cl : CT} {lm : Nat × Nat} {Q : QT} {E : ET} {d2 : Nat} (hCl : CallsOK l G d2 cl ∧ hLm G lm ∧ 8 ≤ d2 ∧ LamsOK l G d2 cl) {x0 : Nat} {x1 : Option Nat} {h : HS} (hw : wb_J23_add cl lm Q E x0 x1 h) : HMet l G yJ23_add (ws_ yJ23_add cJ23_add 2 ((Option.some Jvm.ClassFile.FieldType.boolean))) (d2 + 1) [.ref x0, va_rf x1] h Q E := by
  refine gh_met (own := RJ23) rfl (by decide +kernel) hst (by simp only [lg_sl_i, lg_sl_r, lg_sl_a, lg_sl_2, lg_sl_f, lg_sl_0]; decide) (fun X hXl hXn hret hnm hTb h0 eh C S0 => ?_)
  subst hXl
  have hlm := hCl.2.1
  have hd8 := hCl.2.2.1
  have hd2 : 1 ≤ d2 := Nat.le_trans (by decide) hd8
  have hLa := hCl.2.2.2
  have hd1 : 1 ≤ d2 + 1 := Nat.le_add_left _ _
  have hC9 := hCl
  replace hCl := hCl.1
  have hini : True := trivial
  unfold wb_J23_add at hw
  refine GK.sub (lv' := [(0, .ref x0), (1, va_rf x1)]) [0, 1] (by simp only [lv_args_i, lv_args_r, lv_args_a, lv_args_l, lv_args_f, lv_args_0]; rfl) ?_
  refine gk_aload_n (pc := 0) C.1 0 dJ23_add_0 rfl rfl ?_
  obtain ⟨ht, hw⟩ := hw
  refine gf_J23_10 (pc := 1) C ht dJ23_add_1 (fun r_1 er_1 => ?_)
  replace hw := hw r_1 er_1
  refine gk_qload_n (pc := 4) C.1 1 dJ23_add_4 rfl rfl ?_
  refine gh_gets (pc := 5) C C.2.2.1.2.2.2.1 q1817 (fun x hx => hx) dJ23_add_5 ?_
  generalize gPr G = a_2
  replace hw := hw a_2
  obtain ⟨a_3, rfl, hw⟩ := hw
  refine gc_J23_68 (pc := 8) (As := [va_rf x1, .ref a_2]) (rest := []) C hCl (Nat.le_refl _) hw rfl rfl (Nat.le_of_ble_eq_true rfl) dJ23_add_8 (fun v9 h_4 hp => ?_) (fun q_6 h_7 hw ht9 => ?_)
  rotate_left
  · exact gx_out C S0 (by rw [hTb]; decide) ht9 hw
  clear hw
  obtain ⟨r_5, rfl, hw⟩ := hp
  refine GK.at (p2 := 11) rfl ?_
  refine gk_ifnonnull (pc := 11) (tgt := 18) C.1 dJ23_add_11 (by decide) (fun c_8 => ?_) (fun c_8 => ?_)
  · obtain ⟨a_9, c_8⟩ := Option.ne_none_iff_exists'.mp c_8
    replace hw := hw.2 a_9 c_8
    subst c_8
    refine gk_iconst (pc := 18) (v := 0) C.1 dJ23_add_18 (by decide) ?_
    exact gh_zret (pc := 19) C S0 hret dJ23_add_19 bz0 hw
  · replace hw := hw.1 c_8
    subst c_8
    refine gk_iconst (pc := 14) (v := 1) C.1 dJ23_add_14 (by decide) ?_
    refine gk_goto (pc := 15) (tgt := 19) C.1 dJ23_add_15 (by decide) ?_
    exact gh_zret (pc := 19) C S0 hret dJ23_add_19 bz1 hw
/-! 44: java/util/HashSet.<init>()V -/
def wb_J23_init (cl : CT) (lm : Nat × Nat) (Q : QT) (E : ET) (x0 : Nat) (h : HS) : Prop := cl 35 (.ref x0 :: []) h (gV (fun h_1 => hZ h_1 + 1 ≤ lm.1 ∧ (hL h_1 + 8 ≤ lm.2 ∧ (∀ (a_5 : Nat) (h_4 : HS), a_5 = hZ h_1 → h_4 = hNew h_1 19 0 8 → (cl 7 (.ref a_5 :: []) h_4 (gV (fun h_6 => (hT h_6 x0 = 25) ∧ (∀ h_9 : HS, h_9 = sR h_6 84 x0 (some a_5) → (Q none h_9)))) E))))) E
theorem wx_J23_init {l : Launch} (hst : l.stackTraces = false) {G : GG} {cl : CT} {lm : Nat × Nat} {Q : QT} {E : ET} {d2 : Nat} (hCl : CallsOK l G d2 cl ∧ hLm G lm ∧ 8 ≤ d2 ∧ LamsOK l G d2 cl) {x0 : Nat} {h : HS} (hw : wb_J23_init cl lm Q E x0 h) : HMet l G yJ23_init (ws_ yJ23_init cJ23_init 1 ((Option.none : Option Jvm.ClassFile.FieldType))) (d2 + 1) [.ref x0] h Q E := by
  refine gh_met (own := RJ23) rfl (by decide +kernel) hst (by simp only [lg_sl_i, lg_sl_r, lg_sl_a, lg_sl_2, lg_sl_f, lg_sl_0]; decide) (fun X hXl hXn hret hnm hTb h0 eh C S0 => ?_)
  subst hXl
  have hlm := hCl.2.1
  have hd8 := hCl.2.2.1
  have hd2 : 1 ≤ d2 := Nat.le_trans (by decide) hd8
  have hLa := hCl.2.2.2
  have hd1 : 1 ≤ d2 + 1 := Nat.le_add_left _ _
  have hC9 := hCl
  replace hCl := hCl.1
  have hini : (ev_h X).name = "<init>" := hnm.1
  unfold wb_J23_init at hw
  refine GK.sub (lv' := [(0, .ref x0)]) [0] (by simp only [lv_args_i, lv_args_r, lv_args_a, lv_args_l, lv_args_f, lv_args_0]; rfl) ?_
  refine gk_aload_n (pc := 0) C.1 0 dJ23_init_0 rfl rfl ?_
  refine gc_J23_1 (pc := 1) (As := []) (rest := []) C hCl (Nat.le_refl _) hw rfl rfl (Nat.le_of_ble_eq_true rfl) dJ23_init_1 (fun v9 h_1 hp => ?_) (fun q_2 h_3 hw ht9 => ?_)
  rotate_left
  · exact gx_out C S0 (by rw [hTb]; decide) ht9 hw
  clear hw
  obtain ⟨rfl, hw⟩ := hp
  refine GK.at (p2 := 4) rfl ?_
  refine gk_aload_n (pc := 4) C.1 0 dJ23_init_4 rfl rfl ?_
  obtain ⟨hr1, hr2, hw⟩ := hw
  refine gn_J23_7 (pc := 5) C (hlm.1 ▸ hr1) (hlm.2 ▸ hr2) dJ23_init_5 (fun h_4 eh_4 => ?_)
  obtain ⟨a_5, ea_5⟩ : ∃ z : Nat, z = hZ h_1 := ⟨_, rfl⟩
  rw [← ea_5]
  replace hw := hw a_5 h_4 ea_5 eh_4
  refine gk_dup (pc := 8) C.1 dJ23_init_8 rfl ?_
  refine gc_J23_9 (pc := 9) (As := []) (rest := [.ref a_5, .ref x0]) C hCl (Nat.le_refl _) hw rfl rfl (Nat.le_of_ble_eq_true rfl) dJ23_init_9 (fun v9 h_6 hp => ?_) (fun q_7 h_8 hw ht9 => ?_)
  rotate_left
  · exact gx_out C S0 (by rw [hTb]; decide) ht9 hw
  clear hw
  obtain ⟨rfl, hw⟩ := hp
  refine GK.at (p2 := 12) rfl ?_
  obtain ⟨ht, hw⟩ := hw
  refine gfp_J23_10 (pc := 12) (r := (some a_5)) C ht dJ23_init_12 (fun h_9 eh_9 => ?_)
  replace hw := hw h_9 eh_9
  exact gh_vret (pc := 15) C S0 hret dJ23_init_15 hw
/-! 45: java/util/HashSet.iterator()Ljava/util/Iterator; -/
def wb_J23_iterator (cl : CT) (lm : Nat × Nat) (Q : QT) (E : ET) (x0 : Nat) (h : HS) : Prop := (hT h x0 = 25) ∧ (∀ r_1 : Option Nat, r_1 = hR h 84 x0 → (∃ a_2 : Nat, r_1 = some a_2 ∧ (dp_HashMap_keySet cl a_2 [] h (gR (fun r_4 h_3 => ∃ a_7 : Nat, r_4 = some a_7 ∧ (dp_Set_iterator cl a_7 [] h_3 (gR (fun r_9 h_8 => Q (some (va_rf r_9)) h_8)) E))) E)))
theorem wx_J23_iterator {l : Launch} (hst : l.stackTraces = false) {G : GG} {cl : CT} {lm : Nat × Nat} {Q : QT} {E : ET} {d2 : Nat} (hCl : CallsOK l G d2 cl ∧ hLm G lm ∧ 8 ≤ d2 ∧ LamsOK l G d2 cl) {x0 : Nat} {h : HS} (hw : wb_J23_iterator cl lm Q E x0 h) : HMet l G yJ23_iterator (ws_ yJ23_iterator cJ23_iterator 1 ((Option.some (Jvm.ClassFile.FieldType.object "java/util/Iterator")))) (d2 + 1) [.ref x0] h Q E := by
  refine gh_met (own := RJ23) rfl (by decide +kernel) hst (by simp only [lg_sl_i, lg_sl_r, lg_sl_a, lg_sl_2, lg_sl_f, lg_sl_0]; decide) (fun X hXl hXn hret hnm hTb h0 eh C S0 => ?_)
  subst hXl
  have hlm := hCl.2.1
  have hd8 := hCl.2.2.1
  have hd2 : 1 ≤ d2 := Nat.le_trans (by decide) hd8
  have hLa := hCl.2.2.2
  have hd1 : 1 ≤ d2 + 1 := Nat.le_add_left _ _
  have hC9 := hCl
  replace hCl := hCl.1
  have hini : True := trivial
  unfold wb_J23_iterator at hw
  refine GK.sub (lv' := [(0, .ref x0)]) [0] (by simp only [lv_args_i, lv_args_r, lv_args_a, lv_args_l, lv_args_f, lv_args_0]; rfl) ?_
  refine gk_aload_n (pc := 0) C.1 0 dJ23_iterator_0 rfl rfl ?_
  obtain ⟨ht, hw⟩ := hw
  refine gf_J23_10 (pc := 1) C ht dJ23_iterator_1 (fun r_1 er_1 => ?_)
  replace hw := hw r_1 er_1
  obtain ⟨a_2, rfl, hw⟩ := hw
  refine gc_J23_45 (pc := 4) (As := []) (rest := []) C hCl (Nat.le_refl _) hw rfl rfl (Nat.le_of_ble_eq_true rfl) dJ23_iterator_4 (fun v9 h_3 hp => ?_) (fun q_5 h_6 hw ht9 => ?_)
  rotate_left
  · exact gx_out C S0 (by rw [hTb]; decide) ht9 hw
  clear hw
  obtain ⟨r_4, rfl, hw⟩ := hp
  refine GK.at (p2 := 7) rfl ?_
  obtain ⟨a_7, rfl, hw⟩ := hw
  refine gc_J23_49 (pc := 7) (As := []) (rest := []) C hCl (Nat.le_refl _) hw rfl rfl (Nat.le_of_ble_eq_true rfl) dJ23_iterator_7 (fun v9 h_8 hp => ?_) (fun q_10 h_11 hw ht9 => ?_)
  rotate_left
  · exact gx_out C S0 (by rw [hTb]; decide) ht9 hw
  clear hw
  obtain ⟨r_9, rfl, hw⟩ := hp
  refine GK.at (p2 := 12) rfl ?_
  exact gh_aret (pc := 12) (r := r_9) C S0 hret (Or.inl ⟨_, rfl⟩) dJ23_iterator_12 hw
/-! 46: java/util/HashSet.size()I -/
def wb_J23_size (cl : CT) (lm : Nat × Nat) (Q : QT) (E : ET) (x0 : Nat) (h : HS) : Prop := (hT h x0 = 25) ∧ (∀ r_1 : Option Nat, r_1 = hR h 84 x0 → (∃ a_2 : Nat, r_1 = some a_2 ∧ (dp_HashMap_size cl a_2 [] h (gI (fun r_4 h_3 => Q (some (.int r_4)) h_3)) E)))
theorem wx_J23_size {l : Launch} (hst : l.stackTraces = false) {G : GG} {cl : CT} {lm : Nat × Nat} {Q : QT} {E : ET} {d2 : Nat} (hCl : CallsOK l G d2 cl ∧ hLm G lm ∧ 8 ≤ d2 ∧ LamsOK l G d2 cl) {x0 : Nat} {h : HS} (hw : wb_J23_size cl lm Q E x0 h) : HMet l G yJ23_size (ws_ yJ23_size cJ23_size 1 ((Option.some Jvm.ClassFile.FieldType.int))) (d2 + 1) [.ref x0] h Q E := by
  refine gh_met (own := RJ23) rfl (by decide +kernel) hst (by simp only [lg_sl_i, lg_sl_r, lg_sl_a, lg_sl_2, lg_sl_f, lg_sl_0]; decide) (fun X hXl hXn hret hnm hTb h0 eh C S0 => ?_)
  subst hXl
  have hlm := hCl.2.1
  have hd8 := hCl.2.2.1
  have hd2 : 1 ≤ d2 := Nat.le_trans (by decide) hd8
  have hLa := hCl.2.2.2
  have hd1 : 1 ≤ d2 + 1 := Nat.le_add_left _ _
  have hC9 := hCl
  replace hCl := hCl.1
  have hini : True := trivial
  unfold wb_J23_size at hw
  refine GK.sub (lv' := [(0, .ref x0)]) [0] (by simp only [lv_args_i, lv_args_r, lv_args_a, lv_args_l, lv_args_f, lv_args_0]; rfl) ?_
  refine gk_aload_n (pc := 0) C.1 0 dJ23_size_0 rfl rfl ?_
  obtain ⟨ht, hw⟩ := hw
  refine gf_J23_10 (pc := 1) C ht dJ23_size_1 (fun r_1 er_1 => ?_)
  replace hw := hw r_1 er_1
  obtain ⟨a_2, rfl, hw⟩ := hw
  refine gc_J23_55 (pc := 4) (As := []) (rest := []) C hCl (Nat.le_refl _) hw rfl rfl (Nat.le_of_ble_eq_true rfl) dJ23_size_4 (fun v9 h_3 hp => ?_) (fun q_5 h_6 hw ht9 => ?_)
  rotate_left
  · exact gx_out C S0 (by rw [hTb]; decide) ht9 hw
  clear hw
  obtain ⟨r_4, rfl, hw⟩ := hp
  refine GK.at (p2 := 7) rfl ?_
  exact gh_iret (pc := 7) C S0 hret dJ23_size_7 hw
/-! 47: GathersAllFaults.act(IIII)I -/
def wb_X0_act_26 (cl : CT) (lm : Nat × Nat) (Q : QT) (E : ET) (x0 : Nat) (s0 : Nat) (h : HS) : Prop := dp_Refusal_number cl s0 [] h (gI (fun r_2 h_1 => dp_GathersAllFaults_refuse cl x0 [.int r_2] h_1 (gI (fun r_6 h_5 => Q (some (.int r_6)) h_5)) E)) E
theorem wk_X0_act_26 {X : Ev} {G : GG} {cl : CT} {lm : Nat × Nat} {Q : QT} {E : ET} {h0 : HS} {d2 : Nat} (C : HC X G RX0 cX0_act (d2 + 1)) (hCl : CallsOK (ev_l X) G d2 cl ∧ hLm G lm ∧ 8 ≤ d2 ∧ LamsOK (ev_l X) G d2 cl) (S0 : HS0 X h0) (hret : (ev_h X).sig.returnType = (Option.some Jvm.ClassFile.FieldType.int)) (hXn : ev_n X = 6) (hini : True) (hTb : (ev_c X).exceptionTable.toList = tableOf [(0, 25, 26, 342)]) : ∀ (x0 : Nat) (s0 : Nat) (h : HS), wb_X0_act_26 cl lm Q E x0 s0 h → GH X G h (hQ X G h0 Q E) 26 [(0, .ref x0)] [.ref s0] := by
  have hlm := hCl.2.1
  have hd8 := hCl.2.2.1
  have hd2 : 1 ≤ d2 := Nat.le_trans (by decide) hd8
  have hLa := hCl.2.2.2
  have hd1 : 1 ≤ d2 + 1 := Nat.le_add_left _ _
  have hC9 := hCl
  replace hCl := hCl.1
  intro x0 s0 h hw
  unfold wb_X0_act_26 at hw
  refine gk_astore (pc := 26) (lv' := [(5, Value.ref s0), (0, Value.ref x0)]) C.1 dX0_act_26 (by rw [hXn]; decide) (by first | rfl | simp [va_rf_S, va_rf_cat, cat_i, cat_a, cat_l, cat_f, fin4_0, fin4_1, fin4_2, fin4_3]) ?_
  refine gk_aload_n (pc := 28) C.1 1 dX0_act_28 rfl rfl ?_
  refine gk_aload (pc := 29) C.1 0 dX0_act_29 rfl ?_
  refine gc_X0_344 (pc := 31) (As := []) (rest := [.ref x0]) C hCl (Nat.le_refl _) hw rfl rfl (Nat.le_of_ble_eq_true rfl) dX0_act_31 (fun v9 h_1 hp => ?_) (fun q_3 h_4 hw ht9 => ?_)
  rotate_left
  · exact gx_out C S0 (by rw [hTb]; decide) ht9 hw
  clear hw
  obtain ⟨r_2, rfl, hw⟩ := hp
  refine GK.at (p2 := 34) rfl ?_
  refine gc_X0_347 (pc := 34) (As := [.int r_2]) (rest := []) C hCl (Nat.le_refl _) hw rfl rfl (Nat.le_of_ble_eq_true rfl) dX0_act_34 (fun v9 h_5 hp => ?_) (fun q_7 h_8 hw ht9 => ?_)
  rotate_left
  · exact gx_out C S0 (by rw [hTb]; decide) ht9 hw
  clear hw
  obtain ⟨r_6, rfl, hw⟩ := hp
  refine GK.at (p2 := 37) rfl ?_
  exact gh_iret (pc := 37) C S0 hret dX0_act_37 hw
def wb_X0_act (cl : CT) (lm : Nat × Nat) (Q : QT) (E : ET) (x0 : Nat) (x1 : Int32) (x2 : Int32) (x3 : Int32) (x4 : Int32) (h : HS) : Prop := ((16 ≤ x1 → (dp_GathersAllFaults_ofRest cl x0 [.int x1, .int x2, .int x3, .int x4] h (gI (fun r_3 h_2 => Q (some (.int r_3)) h_2)) (fun q_4 h_5 => wb_X0_act_26 cl lm Q E x0 q_4 h_5))) ∧ (¬ 16 ≤ x1 → (dp_GathersAllFaults_ofFaults cl x0 [.int x1, .int x2, .int x3] h (gI (fun r_7 h_6 => Q (some (.int r_7)) h_6)) (fun q_8 h_9 => wb_X0_act_26 cl lm Q E x0 q_8 h_9))))
theorem wx_X0_act {l : Launch} (hst : l.stackTraces = false) {G : GG} {cl : CT} {lm : Nat × Nat} {Q : QT} {E : ET} {d2 : Nat} (hCl : CallsOK l G d2 cl ∧ hLm G lm ∧ 8 ≤ d2 ∧ LamsOK l G d2 cl) {x0 : Nat} {x1 : Int32} {x2 : Int32} {x3 : Int32} {x4 : Int32} {h : HS} (hw : wb_X0_act cl lm Q E x0 x1 x2 x3 x4 h) : HMet l G yX0_act (wsW_ yX0_act cX0_act 6 ((Option.some Jvm.ClassFile.FieldType.int)) [(0, 25, 26, 342)]) (d2 + 1) [.ref x0, .int x1, .int x2, .int x3, .int x4] h Q E := by
  refine gh_metW (own := RX0) rfl (by decide +kernel) hst (by simp only [lg_sl_i, lg_sl_r, lg_sl_a, lg_sl_2, lg_sl_f, lg_sl_0]; decide) (fun X hXl hXn hret hnm hTb h0 eh C S0 => ?_)
  subst hXl
  have hlm := hCl.2.1
  have hd8 := hCl.2.2.1
  have hd2 : 1 ≤ d2 := Nat.le_trans (by decide) hd8
  have hLa := hCl.2.2.2
  have hd1 : 1 ≤ d2 + 1 := Nat.le_add_left _ _
  have hC9 := hCl
  replace hCl := hCl.1
  have hini : True := trivial
  unfold wb_X0_act at hw
  refine GK.sub (lv' := [(0, .ref x0), (1, .int x1), (2, .int x2), (3, .int x3), (4, .int x4)]) [0, 1, 2, 3, 4] (by simp only [lv_args_i, lv_args_r, lv_args_a, lv_args_l, lv_args_f, lv_args_0]; rfl) ?_
  refine gk_iload_n (pc := 0) C.1 1 dX0_act_0 rfl rfl ?_
  refine gk_bipush (pc := 1) (v := 16) C.1 dX0_act_1 (by decide) ?_
  refine gk_icmp_ge (pc := 3) (tgt := 16) C.1 dX0_act_3 (by decide) (fun c_1 => ?_) (fun c_1 => ?_)
  · replace hw := hw.1 c_1
    refine gk_aload_n (pc := 16) C.1 0 dX0_act_16 rfl rfl ?_
    refine gk_iload_n (pc := 17) C.1 1 dX0_act_17 rfl rfl ?_
    refine gk_iload_n (pc := 18) C.1 2 dX0_act_18 rfl rfl ?_
    refine gk_iload_n (pc := 19) C.1 3 dX0_act_19 rfl rfl ?_
    refine gk_iload (pc := 20) C.1 4 dX0_act_20 rfl ?_
    refine gc_X0_338 (pc := 22) (As := [.int x1, .int x2, .int x3, .int x4]) (rest := []) C hCl (Nat.le_refl _) hw rfl rfl (Nat.le_of_ble_eq_true rfl) dX0_act_22 (fun v9 h_2 hp => ?_) (fun q_4 h_5 hw ht9 => ?_)
    rotate_left
    · refine gx_catch C [] ⟨0, 25, 26, 342⟩ [] (by rw [hTb]; rfl) (by decide) (by decide) (by decide) q327 ⟨q2731, q2730⟩ ht9 ?_
      refine GK.sub (lv' := [(0, .ref x0)]) [0] rfl ?_
      exact wk_X0_act_26 C hC9 S0 hret hXn hini hTb  _ _ _ hw
    clear hw
    obtain ⟨r_3, rfl, hw⟩ := hp
    refine GK.at (p2 := 25) rfl ?_
    exact gh_iret (pc := 25) C S0 hret dX0_act_25 hw
  · replace hw := hw.2 c_1
    refine gk_aload_n (pc := 6) C.1 0 dX0_act_6 rfl rfl ?_
    refine gk_iload_n (pc := 7) C.1 1 dX0_act_7 rfl rfl ?_
    refine gk_iload_n (pc := 8) C.1 2 dX0_act_8 rfl rfl ?_
    refine gk_iload_n (pc := 9) C.1 3 dX0_act_9 rfl rfl ?_
    refine gc_X0_334 (pc := 10) (As := [.int x1, .int x2, .int x3]) (rest := []) C hCl (Nat.le_refl _) hw rfl rfl (Nat.le_of_ble_eq_true rfl) dX0_act_10 (fun v9 h_6 hp => ?_) (fun q_8 h_9 hw ht9 => ?_)
    rotate_left
    · refine gx_catch C [] ⟨0, 25, 26, 342⟩ [] (by rw [hTb]; rfl) (by decide) (by decide) (by decide) q327 ⟨q2731, q2730⟩ ht9 ?_
      refine GK.sub (lv' := [(0, .ref x0)]) [0] rfl ?_
      exact wk_X0_act_26 C hC9 S0 hret hXn hini hTb  _ _ _ hw
    clear hw
    obtain ⟨r_7, rfl, hw⟩ := hp
    refine GK.at (p2 := 13) rfl ?_
    refine gk_goto (pc := 13) (tgt := 25) C.1 dX0_act_13 (by decide) ?_
    exact gh_iret (pc := 25) C S0 hret dX0_act_25 hw
/-! 48: GathersAllFaults.at(I)LGathersAllFaults$Value; -/
def wb_X0_at_27 (cl : CT) (lm : Nat × Nat) (Q : QT) (E : ET) : Nat → Int32 → Option Nat → Int32 → HS → Prop
  | 0 => fun _ _ _ _ => False
  | n + 1 => fun x1 x2 x3 h => ∃ a_1 : Nat, x2 = some a_1 ∧ ((hT h a_1 = 7) ∧ ((((hI h 24 a_1) ≤ x3 → (hZ h + 1 ≤ lm.1 ∧ (hL h + 7 ≤ lm.2 ∧ (∀ (a_4 : Nat) (h_3 : HS), a_4 = hZ h → h_3 = hNew h 16 0 7 → (cl 179 (.ref a_4 :: [.int (-1)]) h_3 (gV (fun h_5 => (hT h_5 a_4 = 16 ∨ hT h_5 a_4 = 17) ∧ (E a_4 h_5))) E))))) ∧ (¬ (hI h 24 a_1) ≤ x3 → (dp_Row_at cl a_1 [.int x3] h (gR (fun r_9 h_8 => ck_GathersAllFaults_Part h_8 r_9 ∧ (∃ a_12 : Nat, r_9 = some a_12 ∧ ((hT h_8 a_12 = 6) ∧ (((¬ (hI h_8 21 a_12) = x1 → (∀ x_14 : Int32, x_14 = x3 + 1 → (wb_X0_at_27 cl lm Q E n x1 (some a_1) x_14 h_8))) ∧ ((hI h_8 21 a_12) = x1 → (dp_Row_at cl a_1 [.int x3] h_8 (gR (fun r_16 h_15 => ck_GathersAllFaults_Part h_15 r_16 ∧ (∃ a_19 : Nat, r_16 = some a_19 ∧ ((hT h_15 a_19 = 6) ∧ (∀ r_20 : Option Nat, r_20 = hR h_15 22 a_19 → (Q (some (va_rf r_20)) h_15)))))) E)))))))) E)))))
theorem wk_X0_at_27 {X : Ev} {G : GG} {cl : CT} {lm : Nat × Nat} {Q : QT} {E : ET} {h0 : HS} {d2 : Nat} (C : HC X G RX0 cX0_at (d2 + 1)) (hCl : CallsOK (ev_l X) G d2 cl ∧ hLm G lm ∧ 8 ≤ d2 ∧ LamsOK (ev_l X) G d2 cl) (S0 : HS0 X h0) (hret : (ev_h X).sig.returnType = (Option.some (Jvm.ClassFile.FieldType.object "GathersAllFaults$Value"))) (hXn : ev_n X = 4) (hini : True) (hTb : (ev_c X).exceptionTable.toList = []) : ∀ (n : Nat) (x1 : Int32) (x2 : Option Nat) (x3 : Int32) (h : HS), wb_X0_at_27 cl lm Q E n x1 x2 x3 h → GH X G h (hQ X G h0 Q E) 27 [(1, .int x1), (2, va_rf x2), (3, .int x3)] [] := by
  have hlm := hCl.2.1
  have hd8 := hCl.2.2.1
  have hd2 : 1 ≤ d2 := Nat.le_trans (by decide) hd8
  have hLa := hCl.2.2.2
  have hd1 : 1 ≤ d2 + 1 := Nat.le_add_left _ _
  have hC9 := hCl
  replace hCl := hCl.1
  intro n
  induction n with
  | zero => intro x1 x2 x3 h hw; exact hw.elim
  | succ n ih =>
  intro x1 x2 x3 h hw
  unfold wb_X0_at_27 at hw
  refine gk_iload_n (pc := 27) C.1 2 dX0_at_27 rfl rfl ?_
  refine gk_qload_n (pc := 28) C.1 1 dX0_at_28 rfl rfl ?_
  obtain ⟨a_1, rfl, hw⟩ := hw
  obtain ⟨ht, hw⟩ := hw
  refine gf_X0_149 (pc := 29) C ht dX0_at_29 ?_
  refine gk_icmp_ge (pc := 32) (tgt := 68) C.1 dX0_at_32 (by decide) (fun c_2 => ?_) (fun c_2 => ?_)
  · replace hw := hw.1 c_2
    obtain ⟨hr1, hr2, hw⟩ := hw
    refine gn_X0_1 (pc := 68) C (hlm.1 ▸ hr1) (hlm.2 ▸ hr2) dX0_at_68 (fun h_3 eh_3 => ?_)
    obtain ⟨a_4, ea_4⟩ : ∃ z : Nat, z = hZ h := ⟨_, rfl⟩
    rw [← ea_4]
    replace hw := hw a_4 h_3 ea_4 eh_3
    refine gk_dup (pc := 71) C.1 dX0_at_71 rfl ?_
    refine gk_iconst (pc := 72) (v := (-1)) C.1 dX0_at_72 (by decide) ?_
    refine gc_X0_3 (pc := 73) (As := [.int (-1)]) (rest := [.ref a_4]) C hCl (Nat.le_refl _) hw rfl rfl (Nat.le_of_ble_eq_true rfl) dX0_at_73 (fun v9 h_5 hp => ?_) (fun q_6 h_7 hw ht9 => ?_)
    rotate_left
    · exact gx_out C S0 (by rw [hTb]; decide) ht9 hw
    clear hw
    obtain ⟨rfl, hw⟩ := hp
    refine GK.at (p2 := 76) rfl ?_
    refine gh_athrow (pc := 76) C dX0_at_76 ?_
    obtain ⟨ht9, hw⟩ := hw
    exact gx_out C S0 (by rw [hTb]; decide) ht9 hw
  · replace hw := hw.2 c_2
    refine gk_aload_n (pc := 35) C.1 1 dX0_at_35 rfl rfl ?_
    refine gk_iload_n (pc := 36) C.1 2 dX0_at_36 rfl rfl ?_
    refine gc_X0_152 (pc := 37) (As := [.int x3]) (rest := []) C hCl (Nat.le_refl _) hw rfl rfl (Nat.le_of_ble_eq_true rfl) dX0_at_37 (fun v9 h_8 hp => ?_) (fun q_10 h_11 hw ht9 => ?_)
    rotate_left
    · exact gx_out C S0 (by rw [hTb]; decide) ht9 hw
    clear hw
    obtain ⟨r_9, rfl, hw⟩ := hp
    refine GK.at (p2 := 40) rfl ?_
    obtain ⟨hs, hw⟩ := hw
    refine gh_ckc (pc := 40) (r := r_9) C q1641 (ck_GathersAllFaults_Part_ok hs) dX0_at_40 ?_
    obtain ⟨a_12, rfl, hw⟩ := hw
    obtain ⟨ht, hw⟩ := hw
    refine gf_X0_157 (pc := 43) C ht dX0_at_43 ?_
    refine gk_iload_n (pc := 46) C.1 0 dX0_at_46 rfl rfl ?_
    refine gk_icmp_ne (pc := 47) (tgt := 62) C.1 dX0_at_47 (by decide) (fun c_13 => ?_) (fun c_13 => ?_)
    · replace hw := hw.1 c_13
      obtain ⟨x_14, ex_14⟩ : ∃ z : Int32, z = x3 + 1 := ⟨_, rfl⟩
      replace hw := hw x_14 ex_14
      refine gk_iinc (pc := 62) (v := x_14) (lv' := [(3, Value.int x_14), (1, Value.int x1), (2, Value.ref a_1)]) C.1 2 dX0_at_62 rfl (by rw [ex_14]; rfl) (by rw [hXn]; decide) (by first | rfl | simp [va_rf_S, va_rf_cat, cat_i, cat_a, cat_l, cat_f, fin4_0, fin4_1, fin4_2, fin4_3]) ?_
      refine gk_goto (pc := 65) (tgt := 27) C.1 dX0_at_65 (by decide) ?_
      refine GK.sub (lv' := [(1, .int x1), (2, va_rf (some a_1)), (3, .int x_14)]) [1, 2, 0] rfl ?_
      exact ih _ _ _ _ hw
    · replace hw := hw.2 c_13
      refine gk_aload_n (pc := 50) C.1 1 dX0_at_50 rfl rfl ?_
      refine gk_iload_n (pc := 51) C.1 2 dX0_at_51 rfl rfl ?_
      refine gc_X0_152 (pc := 52) (As := [.int x3]) (rest := []) C hCl (Nat.le_refl _) hw rfl rfl (Nat.le_of_ble_eq_true rfl) dX0_at_52 (fun v9 h_15 hp => ?_) (fun q_17 h_18 hw ht9 => ?_)
      rotate_left
      · exact gx_out C S0 (by rw [hTb]; decide) ht9 hw
      clear hw
      obtain ⟨r_16, rfl, hw⟩ := hp
      refine GK.at (p2 := 55) rfl ?_
      obtain ⟨hs, hw⟩ := hw
      refine gh_ckc (pc := 55) (r := r_16) C q1641 (ck_GathersAllFaults_Part_ok hs) dX0_at_55 ?_
      obtain ⟨a_19, rfl, hw⟩ := hw
      obtain ⟨ht, hw⟩ := hw
      refine gf_X0_160 (pc := 58) C ht dX0_at_58 (fun r_20 er_20 => ?_)
      replace hw := hw r_20 er_20
      exact gh_aret (pc := 61) (r := r_20) C S0 hret (Or.inl ⟨_, rfl⟩) dX0_at_61 hw
def wb_X0_at_16 (cl : CT) (lm : Nat × Nat) (Q : QT) (E : ET) (x0 : Nat) (x1 : Int32) (s0 : Int32) (h : HS) : Prop := cl 104 [.int s0, .int (-1)] h (gV (fun h_1 => dp_GathersAllFaults_parts cl x0 [] h_1 (gR (fun r_5 h_4 => ∃ fu : Nat, wb_X0_at_27 cl lm Q E fu x1 r_5 0 h_4)) E)) E
theorem wk_X0_at_16 {X : Ev} {G : GG} {cl : CT} {lm : Nat × Nat} {Q : QT} {E : ET} {h0 : HS} {d2 : Nat} (C : HC X G RX0 cX0_at (d2 + 1)) (hCl : CallsOK (ev_l X) G d2 cl ∧ hLm G lm ∧ 8 ≤ d2 ∧ LamsOK (ev_l X) G d2 cl) (S0 : HS0 X h0) (hret : (ev_h X).sig.returnType = (Option.some (Jvm.ClassFile.FieldType.object "GathersAllFaults$Value"))) (hXn : ev_n X = 4) (hini : True) (hTb : (ev_c X).exceptionTable.toList = []) : ∀ (x0 : Nat) (x1 : Int32) (s0 : Int32) (h : HS), wb_X0_at_16 cl lm Q E x0 x1 s0 h → GH X G h (hQ X G h0 Q E) 16 [(0, .ref x0), (1, .int x1)] [.int s0] := by
  have hlm := hCl.2.1
  have hd8 := hCl.2.2.1
  have hd2 : 1 ≤ d2 := Nat.le_trans (by decide) hd8
  have hLa := hCl.2.2.2
  have hd1 : 1 ≤ d2 + 1 := Nat.le_add_left _ _
  have hC9 := hCl
  replace hCl := hCl.1
  intro x0 x1 s0 h hw
  unfold wb_X0_at_16 at hw
  refine gk_iconst (pc := 16) (v := (-1)) C.1 dX0_at_16 (by decide) ?_
  refine gc_X0_9 (pc := 17) (As := [.int s0, .int (-1)]) (rest := []) C hCl (Nat.le_refl _) hw rfl rfl (Nat.le_of_ble_eq_true rfl) dX0_at_17 (fun v9 h_1 hp => ?_) (fun q_2 h_3 hw ht9 => ?_)
  rotate_left
  · exact gx_out C S0 (by rw [hTb]; decide) ht9 hw
  clear hw
  obtain ⟨rfl, hw⟩ := hp
  refine GK.at (p2 := 20) rfl ?_
  refine gk_aload_n (pc := 20) C.1 0 dX0_at_20 rfl rfl ?_
  refine gc_X0_145 (pc := 21) (As := []) (rest := []) C hCl (Nat.le_refl _) hw rfl rfl (Nat.le_of_ble_eq_true rfl) dX0_at_21 (fun v9 h_4 hp => ?_) (fun q_6 h_7 hw ht9 => ?_)
  rotate_left
  · exact gx_out C S0 (by rw [hTb]; decide) ht9 hw
  clear hw
  obtain ⟨r_5, rfl, hw⟩ := hp
  refine GK.at (p2 := 24) rfl ?_
  refine gk_qstore_n (pc := 24) (lv' := [(2, va_rf r_5), (0, Value.ref x0), (1, Value.int x1)]) C.1 dX0_at_24 rfl (by rw [hXn]; decide) (by first | rfl | simp [va_rf_S, va_rf_cat, cat_i, cat_a, cat_l, cat_f, fin4_0, fin4_1, fin4_2, fin4_3]) ?_
  refine gk_iconst (pc := 25) (v := 0) C.1 dX0_at_25 (by decide) ?_
  refine gk_istore_n (pc := 26) (lv' := [(3, Value.int 0), (2, va_rf r_5), (0, Value.ref x0), (1, Value.int x1)]) C.1 dX0_at_26 rfl (by rw [hXn]; decide) (by first | rfl | simp [va_rf_S, va_rf_cat, cat_i, cat_a, cat_l, cat_f, fin4_0, fin4_1, fin4_2, fin4_3]) ?_
  refine GK.sub (lv' := [(1, .int x1), (2, va_rf r_5), (3, .int 0)]) [3, 1, 0] rfl ?_
  obtain ⟨n9, hw⟩ := hw
  exact wk_X0_at_27 C hC9 S0 hret hXn hini hTb  n9 _ _ _ _ hw
def wb_X0_at_15 (cl : CT) (lm : Nat × Nat) (Q : QT) (E : ET) (x0 : Nat) (x1 : Int32) (h : HS) : Prop := wb_X0_at_16 cl lm Q E x0 x1 0 h
theorem wk_X0_at_15 {X : Ev} {G : GG} {cl : CT} {lm : Nat × Nat} {Q : QT} {E : ET} {h0 : HS} {d2 : Nat} (C : HC X G RX0 cX0_at (d2 + 1)) (hCl : CallsOK (ev_l X) G d2 cl ∧ hLm G lm ∧ 8 ≤ d2 ∧ LamsOK (ev_l X) G d2 cl) (S0 : HS0 X h0) (hret : (ev_h X).sig.returnType = (Option.some (Jvm.ClassFile.FieldType.object "GathersAllFaults$Value"))) (hXn : ev_n X = 4) (hini : True) (hTb : (ev_c X).exceptionTable.toList = []) : ∀ (x0 : Nat) (x1 : Int32) (h : HS), wb_X0_at_15 cl lm Q E x0 x1 h → GH X G h (hQ X G h0 Q E) 15 [(0, .ref x0), (1, .int x1)] [] := by
  have hlm := hCl.2.1
  have hd8 := hCl.2.2.1
  have hd2 : 1 ≤ d2 := Nat.le_trans (by decide) hd8
  have hLa := hCl.2.2.2
  have hd1 : 1 ≤ d2 + 1 := Nat.le_add_left _ _
  have hC9 := hCl
  replace hCl := hCl.1
  intro x0 x1 h hw
  unfold wb_X0_at_15 at hw
  refine gk_iconst (pc := 15) (v := 0) C.1 dX0_at_15 (by decide) ?_
  refine GK.sub (lv' := [(0, .ref x0), (1, .int x1)]) [0, 1] rfl ?_
  exact wk_X0_at_16 C hC9 S0 hret hXn hini hTb  _ _ _ _ hw
def wb_X0_at (cl : CT) (lm : Nat × Nat) (Q : QT) (E : ET) (x0 : Nat) (x1 : Int32) (h : HS) : Prop := ((x1 < 0 → (wb_X0_at_15 cl lm Q E x0 x1 h)) ∧ (¬ x1 < 0 → (((9999 < x1 → (wb_X0_at_15 cl lm Q E x0 x1 h)) ∧ (¬ 9999 < x1 → (wb_X0_at_16 cl lm Q E x0 x1 1 h))))))
theorem wx_X0_at {l : Launch} (hst : l.stackTraces = false) {G : GG} {cl : CT} {lm : Nat × Nat} {Q : QT} {E : ET} {d2 : Nat} (hCl : CallsOK l G d2 cl ∧ hLm G lm ∧ 8 ≤ d2 ∧ LamsOK l G d2 cl) {x0 : Nat} {x1 : Int32} {h : HS} (hw : wb_X0_at cl lm Q E x0 x1 h) : HMet l G yX0_at (ws_ yX0_at cX0_at 4 ((Option.some (Jvm.ClassFile.FieldType.object "GathersAllFaults$Value")))) (d2 + 1) [.ref x0, .int x1] h Q E := by
  refine gh_met (own := RX0) rfl (by decide +kernel) hst (by simp only [lg_sl_i, lg_sl_r, lg_sl_a, lg_sl_2, lg_sl_f, lg_sl_0]; decide) (fun X hXl hXn hret hnm hTb h0 eh C S0 => ?_)
  subst hXl
  have hlm := hCl.2.1
  have hd8 := hCl.2.2.1
  have hd2 : 1 ≤ d2 := Nat.le_trans (by decide) hd8
  have hLa := hCl.2.2.2
  have hd1 : 1 ≤ d2 + 1 := Nat.le_add_left _ _
  have hC9 := hCl
  replace hCl := hCl.1
  have hini : True := trivial
  unfold wb_X0_at at hw
  refine GK.sub (lv' := [(0, .ref x0), (1, .int x1)]) [0, 1] (by simp only [lv_args_i, lv_args_r, lv_args_a, lv_args_l, lv_args_f, lv_args_0]; rfl) ?_
  refine gk_iload_n (pc := 0) C.1 1 dX0_at_0 rfl rfl ?_
  refine gk_if_lt (pc := 1) (tgt := 15) C.1 dX0_at_1 (by decide) (fun c_1 => ?_) (fun c_1 => ?_)
  · replace hw := hw.1 c_1
    refine GK.sub (lv' := [(0, .ref x0), (1, .int x1)]) [0, 1] rfl ?_
    exact wk_X0_at_15 C hC9 S0 hret hXn hini hTb  _ _ _ hw
  · replace hw := hw.2 c_1
    refine gk_iload_n (pc := 4) C.1 1 dX0_at_4 rfl rfl ?_
    refine gk_sipush (pc := 5) (v := 9999) C.1 dX0_at_5 (by decide) ?_
    refine gk_icmp_gt (pc := 8) (tgt := 15) C.1 dX0_at_8 (by decide) (fun c_2 => ?_) (fun c_2 => ?_)
    · replace hw := hw.1 c_2
      refine GK.sub (lv' := [(0, .ref x0), (1, .int x1)]) [0, 1] rfl ?_
      exact wk_X0_at_15 C hC9 S0 hret hXn hini hTb  _ _ _ hw
    · replace hw := hw.2 c_2
      refine gk_iconst (pc := 11) (v := 1) C.1 dX0_at_11 (by decide) ?_
      refine gk_goto (pc := 12) (tgt := 16) C.1 dX0_at_12 (by decide) ?_
      refine GK.sub (lv' := [(0, .ref x0), (1, .int x1)]) [0, 1] rfl ?_
      exact wk_X0_at_16 C hC9 S0 hret hXn hini hTb  _ _ _ _ hw
/-! 49: GathersAllFaults.below(I)I -/
def wb_X0_below (cl : CT) (lm : Nat × Nat) (Q : QT) (E : ET) (x0 : Nat) (x1 : Int32) (h : HS) : Prop := dp_GathersAllFaults_act cl x0 [.int 10, .int x1, .int 0, .int 0] h (gI (fun r_2 h_1 => Q (some (.int r_2)) h_1)) E
theorem wx_X0_below {l : Launch} (hst : l.stackTraces = false) {G : GG} {cl : CT} {lm : Nat × Nat} {Q : QT} {E : ET} {d2 : Nat} (hCl : CallsOK l G d2 cl ∧ hLm G lm ∧ 8 ≤ d2 ∧ LamsOK l G d2 cl) {x0 : Nat} {x1 : Int32} {h : HS} (hw : wb_X0_below cl lm Q E x0 x1 h) : HMet l G yX0_below (ws_ yX0_below cX0_below 2 ((Option.some Jvm.ClassFile.FieldType.int))) (d2 + 1) [.ref x0, .int x1] h Q E := by
  refine gh_met (own := RX0) rfl (by decide +kernel) hst (by simp only [lg_sl_i, lg_sl_r, lg_sl_a, lg_sl_2, lg_sl_f, lg_sl_0]; decide) (fun X hXl hXn hret hnm hTb h0 eh C S0 => ?_)
  subst hXl
  have hlm := hCl.2.1
  have hd8 := hCl.2.2.1
  have hd2 : 1 ≤ d2 := Nat.le_trans (by decide) hd8
  have hLa := hCl.2.2.2
  have hd1 : 1 ≤ d2 + 1 := Nat.le_add_left _ _
  have hC9 := hCl
  replace hCl := hCl.1
  have hini : True := trivial
  unfold wb_X0_below at hw
  refine GK.sub (lv' := [(0, .ref x0), (1, .int x1)]) [0, 1] (by simp only [lv_args_i, lv_args_r, lv_args_a, lv_args_l, lv_args_f, lv_args_0]; rfl) ?_
  refine gk_aload_n (pc := 0) C.1 0 dX0_below_0 rfl rfl ?_
  refine gk_bipush (pc := 1) (v := 10) C.1 dX0_below_1 (by decide) ?_
  refine gk_iload_n (pc := 3) C.1 1 dX0_below_3 rfl rfl ?_
  refine gk_iconst (pc := 4) (v := 0) C.1 dX0_below_4 (by decide) ?_
  refine gk_iconst (pc := 5) (v := 0) C.1 dX0_below_5 (by decide) ?_
  refine gc_X0_455 (pc := 6) (As := [.int 10, .int x1, .int 0, .int 0]) (rest := []) C hCl (Nat.le_refl _) hw rfl rfl (Nat.le_of_ble_eq_true rfl) dX0_below_6 (fun v9 h_1 hp => ?_) (fun q_3 h_4 hw ht9 => ?_)
  rotate_left
  · exact gx_out C S0 (by rw [hTb]; decide) ht9 hw
  clear hw
  obtain ⟨r_2, rfl, hw⟩ := hp
  refine GK.at (p2 := 9) rfl ?_
  exact gh_iret (pc := 9) C S0 hret dX0_below_9 hw
/-! 50: GathersAllFaults.belowTold(I)I -/
def wb_X0_belowTold (cl : CT) (lm : Nat × Nat) (Q : QT) (E : ET) (x0 : Nat) (x1 : Int32) (h : HS) : Prop := cl 141 [.long ((x1 : Int32).toInt64), .long 0, .long 99999] h (gV (fun h_1 => dp_GathersAllFaults_found cl x0 [] h_1 (gR (fun r_5 h_4 => ∃ a_8 : Nat, r_5 = some a_8 ∧ (dp_Finding_below cl a_8 [.int x1] h_4 (gI (fun r_10 h_9 => Q (some (.int r_10)) h_9)) E))) E)) E
theorem wx_X0_belowTold {l : Launch} (hst : l.stackTraces = false) {G : GG} {cl : CT} {lm : Nat × Nat} {Q : QT} {E : ET} {d2 : Nat} (hCl : CallsOK l G d2 cl ∧ hLm G lm ∧ 8 ≤ d2 ∧ LamsOK l G d2 cl) {x0 : Nat} {x1 : Int32} {h : HS} (hw : wb_X0_belowTold cl lm Q E x0 x1 h) : HMet l G yX0_belowTold (ws_ yX0_belowTold cX0_belowTold 2 ((Option.some Jvm.ClassFile.FieldType.int))) (d2 + 1) [.ref x0, .int x1] h Q E := by
  refine gh_met (own := RX0) rfl (by decide +kernel) hst (by simp only [lg_sl_i, lg_sl_r, lg_sl_a, lg_sl_2, lg_sl_f, lg_sl_0]; decide) (fun X hXl hXn hret hnm hTb h0 eh C S0 => ?_)
  subst hXl
  have hlm := hCl.2.1
  have hd8 := hCl.2.2.1
  have hd2 : 1 ≤ d2 := Nat.le_trans (by decide) hd8
  have hLa := hCl.2.2.2
  have hd1 : 1 ≤ d2 + 1 := Nat.le_add_left _ _
  have hC9 := hCl
  replace hCl := hCl.1
  have hini : True := trivial
  unfold wb_X0_belowTold at hw
  refine GK.sub (lv' := [(0, .ref x0), (1, .int x1)]) [0, 1] (by simp only [lv_args_i, lv_args_r, lv_args_a, lv_args_l, lv_args_f, lv_args_0]; rfl) ?_
  refine gk_iload_n (pc := 0) C.1 1 dX0_belowTold_0 rfl rfl ?_
  refine gk_i2l (pc := 1) C.1 dX0_belowTold_1 ?_
  refine gk_lconst (pc := 2) (v := 0) C.1 dX0_belowTold_2 (by decide) ?_
  refine gk_ldc2 (pc := 3) (v := 99999) C.1 q1746 dX0_belowTold_3 ?_
  refine gc_X0_184 (pc := 6) (As := [.long ((x1 : Int32).toInt64), .long 0, .long 99999]) (rest := []) C hCl (Nat.le_refl _) hw rfl rfl (Nat.le_of_ble_eq_true rfl) dX0_belowTold_6 (fun v9 h_1 hp => ?_) (fun q_2 h_3 hw ht9 => ?_)
  rotate_left
  · exact gx_out C S0 (by rw [hTb]; decide) ht9 hw
  clear hw
  obtain ⟨rfl, hw⟩ := hp
  refine GK.at (p2 := 9) rfl ?_
  refine gk_aload_n (pc := 9) C.1 0 dX0_belowTold_9 rfl rfl ?_
  refine gc_X0_229 (pc := 10) (As := []) (rest := []) C hCl (Nat.le_refl _) hw rfl rfl (Nat.le_of_ble_eq_true rfl) dX0_belowTold_10 (fun v9 h_4 hp => ?_) (fun q_6 h_7 hw ht9 => ?_)
  rotate_left
  · exact gx_out C S0 (by rw [hTb]; decide) ht9 hw
  clear hw
  obtain ⟨r_5, rfl, hw⟩ := hp
  refine GK.at (p2 := 13) rfl ?_
  refine gk_iload_n (pc := 13) C.1 1 dX0_belowTold_13 rfl rfl ?_
  obtain ⟨a_8, rfl, hw⟩ := hw
  refine gc_X0_242 (pc := 14) (As := [.int x1]) (rest := []) C hCl (Nat.le_refl _) hw rfl rfl (Nat.le_of_ble_eq_true rfl) dX0_belowTold_14 (fun v9 h_9 hp => ?_) (fun q_11 h_12 hw ht9 => ?_)
  rotate_left
  · exact gx_out C S0 (by rw [hTb]; decide) ht9 hw
  clear hw
  obtain ⟨r_10, rfl, hw⟩ := hp
  refine GK.at (p2 := 17) rfl ?_
  exact gh_iret (pc := 17) C S0 hret dX0_belowTold_17 hw
/-! 51: GathersAllFaults.by(LGathersAllFaults$Look;LGathersAllFaults$Value;ILGathersAllFaults$Sink;)LGathersAllFaults$Finding; -/
def wb_X0_by (cl : CT) (lm : Nat × Nat) (Q : QT) (E : ET) (x0 : Option Nat) (x1 : Option Nat) (x2 : Int32) (x3 : Option Nat) (h : HS) : Prop := ∃ a_1 : Nat, x3 = some a_1 ∧ (dp_Sink_finding cl a_1 [] h (gR (fun r_3 h_2 => ∃ a_6 : Nat, x0 = some a_6 ∧ (dl_Look cl a_6 [va_rf x1, .int x2, va_rf r_3] h_2 (gV (fun h_7 => Q (some (va_rf r_3)) h_7)) E))) E)
theorem wx_X0_by {l : Launch} (hst : l.stackTraces = false) {G : GG} {cl : CT} {lm : Nat × Nat} {Q : QT} {E : ET} {d2 : Nat} (hCl : CallsOK l G d2 cl ∧ hLm G lm ∧ 8 ≤ d2 ∧ LamsOK l G d2 cl) {x0 : Option Nat} {x1 : Option Nat} {x2 : Int32} {x3 : Option Nat} {h : HS} (hw : wb_X0_by cl lm Q E x0 x1 x2 x3 h) : HMet l G yX0_by (ws_ yX0_by cX0_by 5 ((Option.some (Jvm.ClassFile.FieldType.object "GathersAllFaults$Finding")))) (d2 + 1) [va_rf x0, va_rf x1, .int x2, va_rf x3] h Q E := by
  refine gh_met (own := RX0) rfl (by decide +kernel) hst (by simp only [lg_sl_i, lg_sl_r, lg_sl_a, lg_sl_2, lg_sl_f, lg_sl_0]; decide) (fun X hXl hXn hret hnm hTb h0 eh C S0 => ?_)
  subst hXl
  have hlm := hCl.2.1
  have hd8 := hCl.2.2.1
  have hd2 : 1 ≤ d2 := Nat.le_trans (by decide) hd8
  have hLa := hCl.2.2.2
  have hd1 : 1 ≤ d2 + 1 := Nat.le_add_left _ _
  have hC9 := hCl
  replace hCl := hCl.1
  have hini : True := trivial
  unfold wb_X0_by at hw
  refine GK.sub (lv' := [(0, va_rf x0), (1, va_rf x1), (2, .int x2), (3, va_rf x3)]) [0, 1, 2, 3] (by simp only [lv_args_i, lv_args_r, lv_args_a, lv_args_l, lv_args_f, lv_args_0]; rfl) ?_
  refine gk_qload_n (pc := 0) C.1 3 dX0_by_0 rfl rfl ?_
  obtain ⟨a_1, rfl, hw⟩ := hw
  refine gc_X0_21 (pc := 1) (As := []) (rest := []) C hCl (Nat.le_refl _) hw rfl rfl (Nat.le_of_ble_eq_true rfl) dX0_by_1 (fun v9 h_2 hp => ?_) (fun q_4 h_5 hw ht9 => ?_)
  rotate_left
  · exact gx_out C S0 (by rw [hTb]; decide) ht9 hw
  clear hw
  obtain ⟨r_3, rfl, hw⟩ := hp
  refine GK.at (p2 := 4) rfl ?_
  refine gk_qstore (pc := 4) (lv' := [(4, va_rf r_3), (0, va_rf x0), (1, va_rf x1), (2, Value.int x2), (3, Value.ref a_1)]) C.1 dX0_by_4 (by rw [hXn]; decide) (by first | rfl | simp [va_rf_S, va_rf_cat, cat_i, cat_a, cat_l, cat_f, fin4_0, fin4_1, fin4_2, fin4_3]) ?_
  refine gk_qload_n (pc := 6) C.1 1 dX0_by_6 rfl rfl ?_
  refine gk_qload_n (pc := 7) C.1 2 dX0_by_7 rfl rfl ?_
  refine gk_iload_n (pc := 8) C.1 3 dX0_by_8 rfl rfl ?_
  refine gk_qload (pc := 9) C.1 0 dX0_by_9 rfl ?_
  obtain ⟨a_6, rfl, hw⟩ := hw
  refine gcl_X0_27 (pc := 11) (As := [va_rf x1, .int x2, va_rf r_3]) (rest := []) C hLa (Nat.le_refl _) hw rfl rfl (Nat.le_of_ble_eq_true rfl) dX0_by_11 (fun v9 h_7 hp => ?_) (fun q_8 h_9 hw ht9 => ?_)
  rotate_left
  · exact gx_out C S0 (by rw [hTb]; decide) ht9 hw
  clear hw
  obtain ⟨rfl, hw⟩ := hp
  refine GK.at (p2 := 16) rfl ?_
  refine gk_qload (pc := 16) C.1 0 dX0_by_16 rfl ?_
  exact gh_aret (pc := 18) (r := r_3) C S0 hret (Or.inl ⟨_, rfl⟩) dX0_by_18 hw
/-! 52: GathersAllFaults.changed(LGathersAllFaults$Value;ILGathersAllFaults$Value;)LGathersAllFaults$Value; -/
def wb_X0_changed_56 (cl : CT) (lm : Nat × Nat) (Q : QT) (E : ET) (x0 : Option Nat) (x3 : Int32) (s0 : Option Nat) (h : HS) : Prop := ∃ a_1 : Nat, x0 = some a_1 ∧ (dp_Value_with cl a_1 [.int x3, va_rf s0] h (gR (fun r_3 h_2 => Q (some (va_rf r_3)) h_2)) E)
theorem wk_X0_changed_56 {X : Ev} {G : GG} {cl : CT} {lm : Nat × Nat} {Q : QT} {E : ET} {h0 : HS} {d2 : Nat} (C : HC X G RX0 cX0_changed (d2 + 1)) (hCl : CallsOK (ev_l X) G d2 cl ∧ hLm G lm ∧ 8 ≤ d2 ∧ LamsOK (ev_l X) G d2 cl) (S0 : HS0 X h0) (hret : (ev_h X).sig.returnType = (Option.some (Jvm.ClassFile.FieldType.object "GathersAllFaults$Value"))) (hXn : ev_n X = 6) (hini : True) (hTb : (ev_c X).exceptionTable.toList = []) : ∀ (x0 : Option Nat) (x3 : Int32) (s0 : Option Nat) (h : HS), wb_X0_changed_56 cl lm Q E x0 x3 s0 h → GH X G h (hQ X G h0 Q E) 56 [(0, va_rf x0), (3, .int x3)] [va_rf s0] := by
  have hlm := hCl.2.1
  have hd8 := hCl.2.2.1
  have hd2 : 1 ≤ d2 := Nat.le_trans (by decide) hd8
  have hLa := hCl.2.2.2
  have hd1 : 1 ≤ d2 + 1 := Nat.le_add_left _ _
  have hC9 := hCl
  replace hCl := hCl.1
  intro x0 x3 s0 h hw
  unfold wb_X0_changed_56 at hw
  refine gk_qstore (pc := 56) (lv' := [(5, va_rf s0), (0, va_rf x0), (3, Value.int x3)]) C.1 dX0_changed_56 (by rw [hXn]; decide) (by first | rfl | simp [va_rf_S, va_rf_cat, cat_i, cat_a, cat_l, cat_f, fin4_0, fin4_1, fin4_2, fin4_3]) ?_
  refine gk_qload_n (pc := 58) C.1 1 dX0_changed_58 rfl rfl ?_
  refine gk_iload_n (pc := 59) C.1 2 dX0_changed_59 rfl rfl ?_
  refine gk_qload (pc := 60) C.1 0 dX0_changed_60 rfl ?_
  obtain ⟨a_1, rfl, hw⟩ := hw
  refine gc_X0_169 (pc := 62) (As := [.int x3, va_rf s0]) (rest := []) C hCl (Nat.le_refl _) hw rfl rfl (Nat.le_of_ble_eq_true rfl) dX0_changed_62 (fun v9 h_2 hp => ?_) (fun q_4 h_5 hw ht9 => ?_)
  rotate_left
  · exact gx_out C S0 (by rw [hTb]; decide) ht9 hw
  clear hw
  obtain ⟨r_3, rfl, hw⟩ := hp
  refine GK.at (p2 := 65) rfl ?_
  exact gh_aret (pc := 65) (r := r_3) C S0 hret (Or.inl ⟨_, rfl⟩) dX0_changed_65 hw
def wb_X0_changed_11 (cl : CT) (lm : Nat × Nat) (Q : QT) (E : ET) : Nat → Option Nat → Int32 → Option Nat → Int32 → Int32 → HS → Prop
  | 0 => fun _ _ _ _ _ _ => False
  | n + 1 => fun x0 x1 x2 x3 x4 h => ((x3 ≤ 9 → (¬ x4 = 0 ∧ (((¬ (x1 - x1 / x4 * x4) = 0 → (∃ a_3 : Nat, x0 = some a_3 ∧ (dp_Value_step cl a_3 [.int x3] h (gR (fun r_5 h_4 => ¬ x4 = 0 ∧ (cl 52 [va_rf r_5, .int (x1 - x1 / x4 * x4), va_rf x2] h_4 (gR (fun r_9 h_8 => wb_X0_changed_56 cl lm Q E (some a_3) x3 r_9 h_8)) E))) E))) ∧ ((x1 - x1 / x4 * x4) = 0 → (wb_X0_changed_56 cl lm Q E x0 x3 x2 h)))))) ∧ (¬ x3 ≤ 9 → (∀ x_12 : Int32, x_12 = x3 / 10 → (∀ x_13 : Int32, x_13 = x4 * 10 → (wb_X0_changed_11 cl lm Q E n x0 x1 x2 x_12 x_13 h)))))
theorem wk_X0_changed_11 {X : Ev} {G : GG} {cl : CT} {lm : Nat × Nat} {Q : QT} {E : ET} {h0 : HS} {d2 : Nat} (C : HC X G RX0 cX0_changed (d2 + 1)) (hCl : CallsOK (ev_l X) G d2 cl ∧ hLm G lm ∧ 8 ≤ d2 ∧ LamsOK (ev_l X) G d2 cl) (S0 : HS0 X h0) (hret : (ev_h X).sig.returnType = (Option.some (Jvm.ClassFile.FieldType.object "GathersAllFaults$Value"))) (hXn : ev_n X = 6) (hini : True) (hTb : (ev_c X).exceptionTable.toList = []) : ∀ (n : Nat) (x0 : Option Nat) (x1 : Int32) (x2 : Option Nat) (x3 : Int32) (x4 : Int32) (h : HS), wb_X0_changed_11 cl lm Q E n x0 x1 x2 x3 x4 h → GH X G h (hQ X G h0 Q E) 11 [(0, va_rf x0), (1, .int x1), (2, va_rf x2), (3, .int x3), (4, .int x4)] [] := by
  have hlm := hCl.2.1
  have hd8 := hCl.2.2.1
  have hd2 : 1 ≤ d2 := Nat.le_trans (by decide) hd8
  have hLa := hCl.2.2.2
  have hd1 : 1 ≤ d2 + 1 := Nat.le_add_left _ _
  have hC9 := hCl
  replace hCl := hCl.1
  intro n
  induction n with
  | zero => intro x0 x1 x2 x3 x4 h hw; exact hw.elim
  | succ n ih =>
  intro x0 x1 x2 x3 x4 h hw
  unfold wb_X0_changed_11 at hw
  refine gk_iload_n (pc := 11) C.1 3 dX0_changed_11 rfl rfl ?_
  refine gk_bipush (pc := 12) (v := 9) C.1 dX0_changed_12 (by decide) ?_
  refine gk_icmp_le (pc := 14) (tgt := 32) C.1 dX0_changed_14 (by decide) (fun c_1 => ?_) (fun c_1 => ?_)
  · replace hw := hw.1 c_1
    refine gk_iload_n (pc := 32) C.1 1 dX0_changed_32 rfl rfl ?_
    refine gk_iload (pc := 33) C.1 4 dX0_changed_33 rfl ?_
    obtain ⟨hne, hw⟩ := hw
    refine gk_irem (pc := 35) C.1 dX0_changed_35 hne ?_
    refine gk_if_ne (pc := 36) (tgt := 43) C.1 dX0_changed_36 (by decide) (fun c_2 => ?_) (fun c_2 => ?_)
    · replace hw := hw.1 c_2
      refine gk_qload_n (pc := 43) C.1 0 dX0_changed_43 rfl rfl ?_
      refine gk_iload_n (pc := 44) C.1 3 dX0_changed_44 rfl rfl ?_
      obtain ⟨a_3, rfl, hw⟩ := hw
      refine gc_X0_162 (pc := 45) (As := [.int x3]) (rest := []) C hCl (Nat.le_refl _) hw rfl rfl (Nat.le_of_ble_eq_true rfl) dX0_changed_45 (fun v9 h_4 hp => ?_) (fun q_6 h_7 hw ht9 => ?_)
      rotate_left
      · exact gx_out C S0 (by rw [hTb]; decide) ht9 hw
      clear hw
      obtain ⟨r_5, rfl, hw⟩ := hp
      refine GK.at (p2 := 48) rfl ?_
      refine gk_iload_n (pc := 48) C.1 1 dX0_changed_48 rfl rfl ?_
      refine gk_iload (pc := 49) C.1 4 dX0_changed_49 rfl ?_
      obtain ⟨hne, hw⟩ := hw
      refine gk_irem (pc := 51) C.1 dX0_changed_51 hne ?_
      refine gk_qload_n (pc := 52) C.1 2 dX0_changed_52 rfl rfl ?_
      refine gc_X0_165 (pc := 53) (As := [va_rf r_5, .int (x1 - x1 / x4 * x4), va_rf x2]) (rest := []) C hCl (Nat.le_refl _) hw rfl rfl (Nat.le_of_ble_eq_true rfl) dX0_changed_53 (fun v9 h_8 hp => ?_) (fun q_10 h_11 hw ht9 => ?_)
      rotate_left
      · exact gx_out C S0 (by rw [hTb]; decide) ht9 hw
      clear hw
      obtain ⟨r_9, rfl, hw⟩ := hp
      refine GK.at (p2 := 56) rfl ?_
      refine GK.sub (lv' := [(0, va_rf (some a_3)), (3, .int x3)]) [0, 3] rfl ?_
      exact wk_X0_changed_56 C hC9 S0 hret hXn hini hTb  _ _ _ _ hw
    · replace hw := hw.2 c_2
      refine gk_qload_n (pc := 39) C.1 2 dX0_changed_39 rfl rfl ?_
      refine gk_goto (pc := 40) (tgt := 56) C.1 dX0_changed_40 (by decide) ?_
      refine GK.sub (lv' := [(0, va_rf x0), (3, .int x3)]) [0, 3] rfl ?_
      exact wk_X0_changed_56 C hC9 S0 hret hXn hini hTb  _ _ _ _ hw
  · replace hw := hw.2 c_1
    refine gk_iload_n (pc := 17) C.1 3 dX0_changed_17 rfl rfl ?_
    refine gk_bipush (pc := 18) (v := 10) C.1 dX0_changed_18 (by decide) ?_
    refine gk_idiv (pc := 20) C.1 dX0_changed_20 (by decide) ?_
    obtain ⟨x_12, ex_12⟩ : ∃ z : Int32, z = x3 / 10 := ⟨_, rfl⟩
    rw [← ex_12]
    replace hw := hw x_12 ex_12
    refine gk_istore_n (pc := 21) (lv' := [(3, Value.int x_12), (0, va_rf x0), (1, Value.int x1), (2, va_rf x2), (4, Value.int x4)]) C.1 dX0_changed_21 rfl (by rw [hXn]; decide) (by first | rfl | simp [va_rf_S, va_rf_cat, cat_i, cat_a, cat_l, cat_f, fin4_0, fin4_1, fin4_2, fin4_3]) ?_
    refine gk_iload (pc := 22) C.1 4 dX0_changed_22 rfl ?_
    refine gk_bipush (pc := 24) (v := 10) C.1 dX0_changed_24 (by decide) ?_
    refine gk_imul (pc := 26) C.1 dX0_changed_26 ?_
    obtain ⟨x_13, ex_13⟩ : ∃ z : Int32, z = x4 * 10 := ⟨_, rfl⟩
    rw [← ex_13]
    replace hw := hw x_13 ex_13
    refine gk_istore (pc := 27) (lv' := [(4, Value.int x_13), (3, Value.int x_12), (0, va_rf x0), (1, Value.int x1), (2, va_rf x2)]) C.1 dX0_changed_27 (by rw [hXn]; decide) (by first | rfl | simp [va_rf_S, va_rf_cat, cat_i, cat_a, cat_l, cat_f, fin4_0, fin4_1, fin4_2, fin4_3]) ?_
    refine gk_goto (pc := 29) (tgt := 11) C.1 dX0_changed_29 (by decide) ?_
    refine GK.sub (lv' := [(0, va_rf x0), (1, .int x1), (2, va_rf x2), (3, .int x_12), (4, .int x_13)]) [2, 3, 4, 1, 0] rfl ?_
    exact ih _ _ _ _ _ _ hw
def wb_X0_changed (cl : CT) (lm : Nat × Nat) (Q : QT) (E : ET) (x0 : Option Nat) (x1 : Int32) (x2 : Option Nat) (h : HS) : Prop := ((¬ x1 = 0 → (∃ fu : Nat, wb_X0_changed_11 cl lm Q E fu x0 x1 x2 x1 1 h)) ∧ (x1 = 0 → (Q (some (va_rf x2)) h)))
theorem wx_X0_changed {l : Launch} (hst : l.stackTraces = false) {G : GG} {cl : CT} {lm : Nat × Nat} {Q : QT} {E : ET} {d2 : Nat} (hCl : CallsOK l G d2 cl ∧ hLm G lm ∧ 8 ≤ d2 ∧ LamsOK l G d2 cl) {x0 : Option Nat} {x1 : Int32} {x2 : Option Nat} {h : HS} (hw : wb_X0_changed cl lm Q E x0 x1 x2 h) : HMet l G yX0_changed (ws_ yX0_changed cX0_changed 6 ((Option.some (Jvm.ClassFile.FieldType.object "GathersAllFaults$Value")))) (d2 + 1) [va_rf x0, .int x1, va_rf x2] h Q E := by
  refine gh_met (own := RX0) rfl (by decide +kernel) hst (by simp only [lg_sl_i, lg_sl_r, lg_sl_a, lg_sl_2, lg_sl_f, lg_sl_0]; decide) (fun X hXl hXn hret hnm hTb h0 eh C S0 => ?_)
  subst hXl
  have hlm := hCl.2.1
  have hd8 := hCl.2.2.1
  have hd2 : 1 ≤ d2 := Nat.le_trans (by decide) hd8
  have hLa := hCl.2.2.2
  have hd1 : 1 ≤ d2 + 1 := Nat.le_add_left _ _
  have hC9 := hCl
  replace hCl := hCl.1
  have hini : True := trivial
  unfold wb_X0_changed at hw
  refine GK.sub (lv' := [(0, va_rf x0), (1, .int x1), (2, va_rf x2)]) [0, 1, 2] (by simp only [lv_args_i, lv_args_r, lv_args_a, lv_args_l, lv_args_f, lv_args_0]; rfl) ?_
  refine gk_iload_n (pc := 0) C.1 1 dX0_changed_0 rfl rfl ?_
  refine gk_if_ne (pc := 1) (tgt := 6) C.1 dX0_changed_1 (by decide) (fun c_1 => ?_) (fun c_1 => ?_)
  · replace hw := hw.1 c_1
    refine gk_iload_n (pc := 6) C.1 1 dX0_changed_6 rfl rfl ?_
    refine gk_istore_n (pc := 7) (lv' := [(3, Value.int x1), (0, va_rf x0), (1, Value.int x1), (2, va_rf x2)]) C.1 dX0_changed_7 rfl (by rw [hXn]; decide) (by first | rfl | simp [va_rf_S, va_rf_cat, cat_i, cat_a, cat_l, cat_f, fin4_0, fin4_1, fin4_2, fin4_3]) ?_
    refine gk_iconst (pc := 8) (v := 1) C.1 dX0_changed_8 (by decide) ?_
    refine gk_istore (pc := 9) (lv' := [(4, Value.int 1), (3, Value.int x1), (0, va_rf x0), (1, Value.int x1), (2, va_rf x2)]) C.1 dX0_changed_9 (by rw [hXn]; decide) (by first | rfl | simp [va_rf_S, va_rf_cat, cat_i, cat_a, cat_l, cat_f, fin4_0, fin4_1, fin4_2, fin4_3]) ?_
    refine GK.sub (lv' := [(0, va_rf x0), (1, .int x1), (2, va_rf x2), (3, .int x1), (4, .int 1)]) [2, 3, 4, 1, 0] rfl ?_
    obtain ⟨n9, hw⟩ := hw
    exact wk_X0_changed_11 C hC9 S0 hret hXn hini hTb  n9 _ _ _ _ _ _ hw
  · replace hw := hw.2 c_1
    refine gk_qload_n (pc := 4) C.1 2 dX0_changed_4 rfl rfl ?_
    exact gh_aret (pc := 5) (r := x2) C S0 hret (Or.inl ⟨_, rfl⟩) dX0_changed_5 hw
/-! 53: GathersAllFaults.check()I -/
def wb_X0_check (cl : CT) (lm : Nat × Nat) (Q : QT) (E : ET) (x0 : Nat) (h : HS) : Prop := dp_GathersAllFaults_act cl x0 [.int 2, .int 0, .int 0, .int 0] h (gI (fun r_2 h_1 => Q (some (.int r_2)) h_1)) E
theorem wx_X0_check {l : Launch} (hst : l.stackTraces = false) {G : GG} {cl : CT} {lm : Nat × Nat} {Q : QT} {E : ET} {d2 : Nat} (hCl : CallsOK l G d2 cl ∧ hLm G lm ∧ 8 ≤ d2 ∧ LamsOK l G d2 cl) {x0 : Nat} {h : HS} (hw : wb_X0_check cl lm Q E x0 h) : HMet l G yX0_check (ws_ yX0_check cX0_check 1 ((Option.some Jvm.ClassFile.FieldType.int))) (d2 + 1) [.ref x0] h Q E := by
  refine gh_met (own := RX0) rfl (by decide +kernel) hst (by simp only [lg_sl_i, lg_sl_r, lg_sl_a, lg_sl_2, lg_sl_f, lg_sl_0]; decide) (fun X hXl hXn hret hnm hTb h0 eh C S0 => ?_)
  subst hXl
  have hlm := hCl.2.1
  have hd8 := hCl.2.2.1
  have hd2 : 1 ≤ d2 := Nat.le_trans (by decide) hd8
  have hLa := hCl.2.2.2
  have hd1 : 1 ≤ d2 + 1 := Nat.le_add_left _ _
  have hC9 := hCl
  replace hCl := hCl.1
  have hini : True := trivial
  unfold wb_X0_check at hw
  refine GK.sub (lv' := [(0, .ref x0)]) [0] (by simp only [lv_args_i, lv_args_r, lv_args_a, lv_args_l, lv_args_f, lv_args_0]; rfl) ?_
  refine gk_aload_n (pc := 0) C.1 0 dX0_check_0 rfl rfl ?_
  refine gk_iconst (pc := 1) (v := 2) C.1 dX0_check_1 (by decide) ?_
  refine gk_iconst (pc := 2) (v := 0) C.1 dX0_check_2 (by decide) ?_
  refine gk_iconst (pc := 3) (v := 0) C.1 dX0_check_3 (by decide) ?_
  refine gk_iconst (pc := 4) (v := 0) C.1 dX0_check_4 (by decide) ?_
  refine gc_X0_455 (pc := 5) (As := [.int 2, .int 0, .int 0, .int 0]) (rest := []) C hCl (Nat.le_refl _) hw rfl rfl (Nat.le_of_ble_eq_true rfl) dX0_check_5 (fun v9 h_1 hp => ?_) (fun q_3 h_4 hw ht9 => ?_)
  rotate_left
  · exact gx_out C S0 (by rw [hTb]; decide) ht9 hw
  clear hw
  obtain ⟨r_2, rfl, hw⟩ := hp
  refine GK.at (p2 := 8) rfl ?_
  exact gh_iret (pc := 8) C S0 hret dX0_check_8 hw
/-! 54: GathersAllFaults.clear()I -/
def wb_X0_clear (cl : CT) (lm : Nat × Nat) (Q : QT) (E : ET) (x0 : Nat) (h : HS) : Prop := dp_GathersAllFaults_act cl x0 [.int 24, .int 0, .int 0, .int 0] h (gI (fun r_2 h_1 => Q (some (.int r_2)) h_1)) E
theorem wx_X0_clear {l : Launch} (hst : l.stackTraces = false) {G : GG} {cl : CT} {lm : Nat × Nat} {Q : QT} {E : ET} {d2 : Nat} (hCl : CallsOK l G d2 cl ∧ hLm G lm ∧ 8 ≤ d2 ∧ LamsOK l G d2 cl) {x0 : Nat} {h : HS} (hw : wb_X0_clear cl lm Q E x0 h) : HMet l G yX0_clear (ws_ yX0_clear cX0_clear 1 ((Option.some Jvm.ClassFile.FieldType.int))) (d2 + 1) [.ref x0] h Q E := by
  refine gh_met (own := RX0) rfl (by decide +kernel) hst (by simp only [lg_sl_i, lg_sl_r, lg_sl_a, lg_sl_2, lg_sl_f, lg_sl_0]; decide) (fun X hXl hXn hret hnm hTb h0 eh C S0 => ?_)
  subst hXl
  have hlm := hCl.2.1
  have hd8 := hCl.2.2.1
  have hd2 : 1 ≤ d2 := Nat.le_trans (by decide) hd8
  have hLa := hCl.2.2.2
  have hd1 : 1 ≤ d2 + 1 := Nat.le_add_left _ _
  have hC9 := hCl
  replace hCl := hCl.1
  have hini : True := trivial
  unfold wb_X0_clear at hw
  refine GK.sub (lv' := [(0, .ref x0)]) [0] (by simp only [lv_args_i, lv_args_r, lv_args_a, lv_args_l, lv_args_f, lv_args_0]; rfl) ?_
  refine gk_aload_n (pc := 0) C.1 0 dX0_clear_0 rfl rfl ?_
  refine gk_bipush (pc := 1) (v := 24) C.1 dX0_clear_1 (by decide) ?_
  refine gk_iconst (pc := 3) (v := 0) C.1 dX0_clear_3 (by decide) ?_
  refine gk_iconst (pc := 4) (v := 0) C.1 dX0_clear_4 (by decide) ?_
  refine gk_iconst (pc := 5) (v := 0) C.1 dX0_clear_5 (by decide) ?_
  refine gc_X0_455 (pc := 6) (As := [.int 24, .int 0, .int 0, .int 0]) (rest := []) C hCl (Nat.le_refl _) hw rfl rfl (Nat.le_of_ble_eq_true rfl) dX0_clear_6 (fun v9 h_1 hp => ?_) (fun q_3 h_4 hw ht9 => ?_)
  rotate_left
  · exact gx_out C S0 (by rw [hTb]; decide) ht9 hw
  clear hw
  obtain ⟨r_2, rfl, hw⟩ := hp
  refine GK.at (p2 := 9) rfl ?_
  exact gh_iret (pc := 9) C S0 hret dX0_clear_9 hw
/-! 55: GathersAllFaults.clearIt()I -/
def wb_X0_clearIt (cl : CT) (lm : Nat × Nat) (Q : QT) (E : ET) (x0 : Nat) (h : HS) : Prop := (hT h x0 = 1) ∧ (∀ x_1 : Int32, x_1 = hI h 6 x0 → ((hT h x0 = 1) ∧ (∀ h_2 : HS, h_2 = sI h 6 x0 0 → (Q (some (.int x_1)) h_2))))
theorem wx_X0_clearIt {l : Launch} (hst : l.stackTraces = false) {G : GG} {cl : CT} {lm : Nat × Nat} {Q : QT} {E : ET} {d2 : Nat} (hCl : CallsOK l G d2 cl ∧ hLm G lm ∧ 8 ≤ d2 ∧ LamsOK l G d2 cl) {x0 : Nat} {h : HS} (hw : wb_X0_clearIt cl lm Q E x0 h) : HMet l G yX0_clearIt (ws_ yX0_clearIt cX0_clearIt 2 ((Option.some Jvm.ClassFile.FieldType.int))) (d2 + 1) [.ref x0] h Q E := by
  refine gh_met (own := RX0) rfl (by decide +kernel) hst (by simp only [lg_sl_i, lg_sl_r, lg_sl_a, lg_sl_2, lg_sl_f, lg_sl_0]; decide) (fun X hXl hXn hret hnm hTb h0 eh C S0 => ?_)
  subst hXl
  have hlm := hCl.2.1
  have hd8 := hCl.2.2.1
  have hd2 : 1 ≤ d2 := Nat.le_trans (by decide) hd8
  have hLa := hCl.2.2.2
  have hd1 : 1 ≤ d2 + 1 := Nat.le_add_left _ _
  have hC9 := hCl
  replace hCl := hCl.1
  have hini : True := trivial
  unfold wb_X0_clearIt at hw
  refine GK.sub (lv' := [(0, .ref x0)]) [0] (by simp only [lv_args_i, lv_args_r, lv_args_a, lv_args_l, lv_args_f, lv_args_0]; rfl) ?_
  refine gk_aload_n (pc := 0) C.1 0 dX0_clearIt_0 rfl rfl ?_
  obtain ⟨ht, hw⟩ := hw
  refine gf_X0_301 (pc := 1) C ht dX0_clearIt_1 ?_
  obtain ⟨x_1, ex_1⟩ : ∃ z : Int32, z = hI h 6 x0 := ⟨_, rfl⟩
  rw [← ex_1]
  replace hw := hw x_1 ex_1
  refine gk_istore_n (pc := 4) (lv' := [(1, Value.int x_1), (0, Value.ref x0)]) C.1 dX0_clearIt_4 rfl (by rw [hXn]; decide) (by first | rfl | simp [va_rf_S, va_rf_cat, cat_i, cat_a, cat_l, cat_f, fin4_0, fin4_1, fin4_2, fin4_3]) ?_
  refine gk_aload_n (pc := 5) C.1 1 dX0_clearIt_5 rfl rfl ?_
  refine gk_iconst (pc := 6) (v := 0) C.1 dX0_clearIt_6 (by decide) ?_
  obtain ⟨ht, hw⟩ := hw
  refine gfp_X0_301 (pc := 7) C ht dX0_clearIt_7 (fun h_2 eh_2 => ?_)
  replace hw := hw h_2 eh_2
  refine gk_iload_n (pc := 10) C.1 0 dX0_clearIt_10 rfl rfl ?_
  exact gh_iret (pc := 11) C S0 hret dX0_clearIt_11 hw
/-! 56: GathersAllFaults.coded(I)I -/
def wb_X0_coded (cl : CT) (lm : Nat × Nat) (Q : QT) (E : ET) (x0 : Nat) (x1 : Int32) (h : HS) : Prop := dp_GathersAllFaults_act cl x0 [.int 9, .int x1, .int 0, .int 0] h (gI (fun r_2 h_1 => Q (some (.int r_2)) h_1)) E
theorem wx_X0_coded {l : Launch} (hst : l.stackTraces = false) {G : GG} {cl : CT} {lm : Nat × Nat} {Q : QT} {E : ET} {d2 : Nat} (hCl : CallsOK l G d2 cl ∧ hLm G lm ∧ 8 ≤ d2 ∧ LamsOK l G d2 cl) {x0 : Nat} {x1 : Int32} {h : HS} (hw : wb_X0_coded cl lm Q E x0 x1 h) : HMet l G yX0_coded (ws_ yX0_coded cX0_coded 2 ((Option.some Jvm.ClassFile.FieldType.int))) (d2 + 1) [.ref x0, .int x1] h Q E := by
  refine gh_met (own := RX0) rfl (by decide +kernel) hst (by simp only [lg_sl_i, lg_sl_r, lg_sl_a, lg_sl_2, lg_sl_f, lg_sl_0]; decide) (fun X hXl hXn hret hnm hTb h0 eh C S0 => ?_)
  subst hXl
  have hlm := hCl.2.1
  have hd8 := hCl.2.2.1
  have hd2 : 1 ≤ d2 := Nat.le_trans (by decide) hd8
  have hLa := hCl.2.2.2
  have hd1 : 1 ≤ d2 + 1 := Nat.le_add_left _ _
  have hC9 := hCl
  replace hCl := hCl.1
  have hini : True := trivial
  unfold wb_X0_coded at hw
  refine GK.sub (lv' := [(0, .ref x0), (1, .int x1)]) [0, 1] (by simp only [lv_args_i, lv_args_r, lv_args_a, lv_args_l, lv_args_f, lv_args_0]; rfl) ?_
  refine gk_aload_n (pc := 0) C.1 0 dX0_coded_0 rfl rfl ?_
  refine gk_bipush (pc := 1) (v := 9) C.1 dX0_coded_1 (by decide) ?_
  refine gk_iload_n (pc := 3) C.1 1 dX0_coded_3 rfl rfl ?_
  refine gk_iconst (pc := 4) (v := 0) C.1 dX0_coded_4 (by decide) ?_
  refine gk_iconst (pc := 5) (v := 0) C.1 dX0_coded_5 (by decide) ?_
  refine gc_X0_455 (pc := 6) (As := [.int 9, .int x1, .int 0, .int 0]) (rest := []) C hCl (Nat.le_refl _) hw rfl rfl (Nat.le_of_ble_eq_true rfl) dX0_coded_6 (fun v9 h_1 hp => ?_) (fun q_3 h_4 hw ht9 => ?_)
  rotate_left
  · exact gx_out C S0 (by rw [hTb]; decide) ht9 hw
  clear hw
  obtain ⟨r_2, rfl, hw⟩ := hp
  refine GK.at (p2 := 9) rfl ?_
  exact gh_iret (pc := 9) C S0 hret dX0_coded_9 hw
/-! 57: GathersAllFaults.codedTold(I)I -/
def wb_X0_codedTold_58 (cl : CT) (lm : Nat × Nat) (Q : QT) (E : ET) (J27 : Int32 → Option Nat → Int32 → Int32 → HS → Prop) (x1 : Int32) (x2 : Option Nat) (x4 : Int32) (s0 : Int32) (s1 : Int32) (h : HS) : Prop := ∀ x_1 : Int32, x_1 = s0 + s1 → (∀ x_2 : Int32, x_2 = x4 + 1 → (J27 x1 x2 x_1 x_2 h))
theorem wk_X0_codedTold_58 {X : Ev} {G : GG} {cl : CT} {lm : Nat × Nat} {Q : QT} {E : ET} {h0 : HS} {d2 : Nat} {J27 : Int32 → Option Nat → Int32 → Int32 → HS → Prop} (C : HC X G RX0 cX0_codedTold (d2 + 1)) (hCl : CallsOK (ev_l X) G d2 cl ∧ hLm G lm ∧ 8 ≤ d2 ∧ LamsOK (ev_l X) G d2 cl) (S0 : HS0 X h0) (hret : (ev_h X).sig.returnType = (Option.some Jvm.ClassFile.FieldType.int)) (hXn : ev_n X = 5) (hini : True) (hTb : (ev_c X).exceptionTable.toList = []) (hJ27 : ∀ (x1 : Int32) (x2 : Option Nat) (x3 : Int32) (x4 : Int32) (h : HS), J27 x1 x2 x3 x4 h → GH X G h (hQ X G h0 Q E) 27 [(1, .int x1), (2, va_rf x2), (3, .int x3), (4, .int x4)] []) : ∀ (x1 : Int32) (x2 : Option Nat) (x4 : Int32) (s0 : Int32) (s1 : Int32) (h : HS), wb_X0_codedTold_58 cl lm Q E J27 x1 x2 x4 s0 s1 h → GH X G h (hQ X G h0 Q E) 58 [(1, .int x1), (2, va_rf x2), (4, .int x4)] [.int s1, .int s0] := by
  have hlm := hCl.2.1
  have hd8 := hCl.2.2.1
  have hd2 : 1 ≤ d2 := Nat.le_trans (by decide) hd8
  have hLa := hCl.2.2.2
  have hd1 : 1 ≤ d2 + 1 := Nat.le_add_left _ _
  have hC9 := hCl
  replace hCl := hCl.1
  intro x1 x2 x4 s0 s1 h hw
  unfold wb_X0_codedTold_58 at hw
  refine gk_iadd (pc := 58) C.1 dX0_codedTold_58 ?_
  obtain ⟨x_1, ex_1⟩ : ∃ z : Int32, z = s0 + s1 := ⟨_, rfl⟩
  rw [← ex_1]
  replace hw := hw x_1 ex_1
  refine gk_istore_n (pc := 59) (lv' := [(3, Value.int x_1), (1, Value.int x1), (2, va_rf x2), (4, Value.int x4)]) C.1 dX0_codedTold_59 rfl (by rw [hXn]; decide) (by first | rfl | simp [va_rf_S, va_rf_cat, cat_i, cat_a, cat_l, cat_f, fin4_0, fin4_1, fin4_2, fin4_3]) ?_
  obtain ⟨x_2, ex_2⟩ : ∃ z : Int32, z = x4 + 1 := ⟨_, rfl⟩
  replace hw := hw x_2 ex_2
  refine gk_iinc (pc := 60) (v := x_2) (lv' := [(4, Value.int x_2), (3, Value.int x_1), (1, Value.int x1), (2, va_rf x2)]) C.1 3 dX0_codedTold_60 rfl (by rw [ex_2]; rfl) (by rw [hXn]; decide) (by first | rfl | simp [va_rf_S, va_rf_cat, cat_i, cat_a, cat_l, cat_f, fin4_0, fin4_1, fin4_2, fin4_3]) ?_
  refine gk_goto (pc := 63) (tgt := 27) C.1 dX0_codedTold_63 (by decide) ?_
  refine GK.sub (lv' := [(1, .int x1), (2, va_rf x2), (3, .int x_1), (4, .int x_2)]) [2, 3, 1, 0] rfl ?_
  exact hJ27 _ _ _ _ _ hw
def wb_X0_codedTold_27 (cl : CT) (lm : Nat × Nat) (Q : QT) (E : ET) : Nat → Int32 → Option Nat → Int32 → Int32 → HS → Prop
  | 0 => fun _ _ _ _ _ => False
  | n + 1 => fun x1 x2 x3 x4 h => ∃ a_1 : Nat, x2 = some a_1 ∧ ((hT h a_1 = 7) ∧ ((((hI h 24 a_1) ≤ x4 → (Q (some (.int x3)) h)) ∧ (¬ (hI h 24 a_1) ≤ x4 → (dp_Row_at cl a_1 [.int x4] h (gR (fun r_4 h_3 => ck_GathersAllFaults_Found h_3 r_4 ∧ (∃ a_7 : Nat, r_4 = some a_7 ∧ ((hT h_3 a_7 = 8) ∧ (((¬ (hI h_3 26 a_7) = x1 → (wb_X0_codedTold_58 cl lm Q E (fun yx1 yx2 yx3 yx4 yh => wb_X0_codedTold_27 cl lm Q E n yx1 yx2 yx3 yx4 yh) x1 (some a_1) x4 x3 0 h_3)) ∧ ((hI h_3 26 a_7) = x1 → (wb_X0_codedTold_58 cl lm Q E (fun yx1 yx2 yx3 yx4 yh => wb_X0_codedTold_27 cl lm Q E n yx1 yx2 yx3 yx4 yh) x1 (some a_1) x4 x3 1 h_3)))))))) E)))))
theorem wk_X0_codedTold_27 {X : Ev} {G : GG} {cl : CT} {lm : Nat × Nat} {Q : QT} {E : ET} {h0 : HS} {d2 : Nat} (C : HC X G RX0 cX0_codedTold (d2 + 1)) (hCl : CallsOK (ev_l X) G d2 cl ∧ hLm G lm ∧ 8 ≤ d2 ∧ LamsOK (ev_l X) G d2 cl) (S0 : HS0 X h0) (hret : (ev_h X).sig.returnType = (Option.some Jvm.ClassFile.FieldType.int)) (hXn : ev_n X = 5) (hini : True) (hTb : (ev_c X).exceptionTable.toList = []) : ∀ (n : Nat) (x1 : Int32) (x2 : Option Nat) (x3 : Int32) (x4 : Int32) (h : HS), wb_X0_codedTold_27 cl lm Q E n x1 x2 x3 x4 h → GH X G h (hQ X G h0 Q E) 27 [(1, .int x1), (2, va_rf x2), (3, .int x3), (4, .int x4)] [] := by
  have hlm := hCl.2.1
  have hd8 := hCl.2.2.1
  have hd2 : 1 ≤ d2 := Nat.le_trans (by decide) hd8
  have hLa := hCl.2.2.2
  have hd1 : 1 ≤ d2 + 1 := Nat.le_add_left _ _
  have hC9 := hCl
  replace hCl := hCl.1
  intro n
  induction n with
  | zero => intro x1 x2 x3 x4 h hw; exact hw.elim
  | succ n ih =>
  intro x1 x2 x3 x4 h hw
  unfold wb_X0_codedTold_27 at hw
  refine gk_iload (pc := 27) C.1 3 dX0_codedTold_27 rfl ?_
  refine gk_qload_n (pc := 29) C.1 1 dX0_codedTold_29 rfl rfl ?_
  obtain ⟨a_1, rfl, hw⟩ := hw
  obtain ⟨ht, hw⟩ := hw
  refine gf_X0_149 (pc := 30) C ht dX0_codedTold_30 ?_
  refine gk_icmp_ge (pc := 33) (tgt := 66) C.1 dX0_codedTold_33 (by decide) (fun c_2 => ?_) (fun c_2 => ?_)
  · replace hw := hw.1 c_2
    refine gk_iload_n (pc := 66) C.1 2 dX0_codedTold_66 rfl rfl ?_
    exact gh_iret (pc := 67) C S0 hret dX0_codedTold_67 hw
  · replace hw := hw.2 c_2
    refine gk_iload_n (pc := 36) C.1 2 dX0_codedTold_36 rfl rfl ?_
    refine gk_aload_n (pc := 37) C.1 1 dX0_codedTold_37 rfl rfl ?_
    refine gk_iload (pc := 38) C.1 3 dX0_codedTold_38 rfl ?_
    refine gc_X0_152 (pc := 40) (As := [.int x4]) (rest := [.int x3]) C hCl (Nat.le_refl _) hw rfl rfl (Nat.le_of_ble_eq_true rfl) dX0_codedTold_40 (fun v9 h_3 hp => ?_) (fun q_5 h_6 hw ht9 => ?_)
    rotate_left
    · exact gx_out C S0 (by rw [hTb]; decide) ht9 hw
    clear hw
    obtain ⟨r_4, rfl, hw⟩ := hp
    refine GK.at (p2 := 43) rfl ?_
    obtain ⟨hs, hw⟩ := hw
    refine gh_ckc (pc := 43) (r := r_4) C q1736 (ck_GathersAllFaults_Found_ok hs) dX0_codedTold_43 ?_
    obtain ⟨a_7, rfl, hw⟩ := hw
    obtain ⟨ht, hw⟩ := hw
    refine gf_X0_235 (pc := 46) C ht dX0_codedTold_46 ?_
    refine gk_iload_n (pc := 49) C.1 0 dX0_codedTold_49 rfl rfl ?_
    refine gk_icmp_ne (pc := 50) (tgt := 57) C.1 dX0_codedTold_50 (by decide) (fun c_8 => ?_) (fun c_8 => ?_)
    · replace hw := hw.1 c_8
      refine gk_iconst (pc := 57) (v := 0) C.1 dX0_codedTold_57 (by decide) ?_
      refine GK.sub (lv' := [(1, .int x1), (2, va_rf (some a_1)), (4, .int x4)]) [0, 1, 3] rfl ?_
      exact wk_X0_codedTold_58 C hC9 S0 hret hXn hini hTb ih _ _ _ _ _ _ hw
    · replace hw := hw.2 c_8
      refine gk_iconst (pc := 53) (v := 1) C.1 dX0_codedTold_53 (by decide) ?_
      refine gk_goto (pc := 54) (tgt := 58) C.1 dX0_codedTold_54 (by decide) ?_
      refine GK.sub (lv' := [(1, .int x1), (2, va_rf (some a_1)), (4, .int x4)]) [0, 1, 3] rfl ?_
      exact wk_X0_codedTold_58 C hC9 S0 hret hXn hini hTb ih _ _ _ _ _ _ hw
def wb_X0_codedTold (cl : CT) (lm : Nat × Nat) (Q : QT) (E : ET) (x0 : Nat) (x1 : Int32) (h : HS) : Prop := cl 78 [.long ((x1 : Int32).toInt64), .long 1, .long 12] h (gI (fun r_2 h_1 => cl 104 [.int r_2, .int (-2)] h_1 (gV (fun h_5 => dp_GathersAllFaults_found cl x0 [] h_5 (gR (fun r_9 h_8 => ∃ a_12 : Nat, r_9 = some a_12 ∧ ((hT h_8 a_12 = 9) ∧ (∀ r_13 : Option Nat, r_13 = hR h_8 28 a_12 → (∃ fu : Nat, wb_X0_codedTold_27 cl lm Q E fu x1 r_13 0 0 h_8))))) E)) E)) E
theorem wx_X0_codedTold {l : Launch} (hst : l.stackTraces = false) {G : GG} {cl : CT} {lm : Nat × Nat} {Q : QT} {E : ET} {d2 : Nat} (hCl : CallsOK l G d2 cl ∧ hLm G lm ∧ 8 ≤ d2 ∧ LamsOK l G d2 cl) {x0 : Nat} {x1 : Int32} {h : HS} (hw : wb_X0_codedTold cl lm Q E x0 x1 h) : HMet l G yX0_codedTold (ws_ yX0_codedTold cX0_codedTold 5 ((Option.some Jvm.ClassFile.FieldType.int))) (d2 + 1) [.ref x0, .int x1] h Q E := by
  refine gh_met (own := RX0) rfl (by decide +kernel) hst (by simp only [lg_sl_i, lg_sl_r, lg_sl_a, lg_sl_2, lg_sl_f, lg_sl_0]; decide) (fun X hXl hXn hret hnm hTb h0 eh C S0 => ?_)
  subst hXl
  have hlm := hCl.2.1
  have hd8 := hCl.2.2.1
  have hd2 : 1 ≤ d2 := Nat.le_trans (by decide) hd8
  have hLa := hCl.2.2.2
  have hd1 : 1 ≤ d2 + 1 := Nat.le_add_left _ _
  have hC9 := hCl
  replace hCl := hCl.1
  have hini : True := trivial
  unfold wb_X0_codedTold at hw
  refine GK.sub (lv' := [(0, .ref x0), (1, .int x1)]) [0, 1] (by simp only [lv_args_i, lv_args_r, lv_args_a, lv_args_l, lv_args_f, lv_args_0]; rfl) ?_
  refine gk_iload_n (pc := 0) C.1 1 dX0_codedTold_0 rfl rfl ?_
  refine gk_i2l (pc := 1) C.1 dX0_codedTold_1 ?_
  refine gk_lconst (pc := 2) (v := 1) C.1 dX0_codedTold_2 (by decide) ?_
  refine gk_ldc2 (pc := 3) (v := 12) C.1 q1741 dX0_codedTold_3 ?_
  refine gc_X0_13 (pc := 6) (As := [.long ((x1 : Int32).toInt64), .long 1, .long 12]) (rest := []) C hCl (Nat.le_refl _) hw rfl rfl (Nat.le_of_ble_eq_true rfl) dX0_codedTold_6 (fun v9 h_1 hp => ?_) (fun q_3 h_4 hw ht9 => ?_)
  rotate_left
  · exact gx_out C S0 (by rw [hTb]; decide) ht9 hw
  clear hw
  obtain ⟨r_2, rfl, hw⟩ := hp
  refine GK.at (p2 := 9) rfl ?_
  refine gk_bipush (pc := 9) (v := (-2)) C.1 dX0_codedTold_9 (by decide) ?_
  refine gc_X0_9 (pc := 11) (As := [.int r_2, .int (-2)]) (rest := []) C hCl (Nat.le_refl _) hw rfl rfl (Nat.le_of_ble_eq_true rfl) dX0_codedTold_11 (fun v9 h_5 hp => ?_) (fun q_6 h_7 hw ht9 => ?_)
  rotate_left
  · exact gx_out C S0 (by rw [hTb]; decide) ht9 hw
  clear hw
  obtain ⟨rfl, hw⟩ := hp
  refine GK.at (p2 := 14) rfl ?_
  refine gk_aload_n (pc := 14) C.1 0 dX0_codedTold_14 rfl rfl ?_
  refine gc_X0_229 (pc := 15) (As := []) (rest := []) C hCl (Nat.le_refl _) hw rfl rfl (Nat.le_of_ble_eq_true rfl) dX0_codedTold_15 (fun v9 h_8 hp => ?_) (fun q_10 h_11 hw ht9 => ?_)
  rotate_left
  · exact gx_out C S0 (by rw [hTb]; decide) ht9 hw
  clear hw
  obtain ⟨r_9, rfl, hw⟩ := hp
  refine GK.at (p2 := 18) rfl ?_
  obtain ⟨a_12, rfl, hw⟩ := hw
  obtain ⟨ht, hw⟩ := hw
  refine gf_X0_221 (pc := 18) C ht dX0_codedTold_18 (fun r_13 er_13 => ?_)
  replace hw := hw r_13 er_13
  refine gk_qstore_n (pc := 21) (lv' := [(2, va_rf r_13), (0, Value.ref x0), (1, Value.int x1)]) C.1 dX0_codedTold_21 rfl (by rw [hXn]; decide) (by first | rfl | simp [va_rf_S, va_rf_cat, cat_i, cat_a, cat_l, cat_f, fin4_0, fin4_1, fin4_2, fin4_3]) ?_
  refine gk_iconst (pc := 22) (v := 0) C.1 dX0_codedTold_22 (by decide) ?_
  refine gk_istore_n (pc := 23) (lv' := [(3, Value.int 0), (2, va_rf r_13), (0, Value.ref x0), (1, Value.int x1)]) C.1 dX0_codedTold_23 rfl (by rw [hXn]; decide) (by first | rfl | simp [va_rf_S, va_rf_cat, cat_i, cat_a, cat_l, cat_f, fin4_0, fin4_1, fin4_2, fin4_3]) ?_
  refine gk_iconst (pc := 24) (v := 0) C.1 dX0_codedTold_24 (by decide) ?_
  refine gk_istore (pc := 25) (lv' := [(4, Value.int 0), (3, Value.int 0), (2, va_rf r_13), (0, Value.ref x0), (1, Value.int x1)]) C.1 dX0_codedTold_25 (by rw [hXn]; decide) (by first | rfl | simp [va_rf_S, va_rf_cat, cat_i, cat_a, cat_l, cat_f, fin4_0, fin4_1, fin4_2, fin4_3]) ?_
  refine GK.sub (lv' := [(1, .int x1), (2, va_rf r_13), (3, .int 0), (4, .int 0)]) [4, 2, 1, 0] rfl ?_
  obtain ⟨n9, hw⟩ := hw
  exact wk_X0_codedTold_27 C hC9 S0 hret hXn hini hTb  n9 _ _ _ _ _ hw
/-! 58: GathersAllFaults.count(I)I -/
def wb_X0_count (cl : CT) (lm : Nat × Nat) (Q : QT) (E : ET) (x0 : Nat) (x1 : Int32) (h : HS) : Prop := ((x1 = 0 → ((hT h x0 = 1) ∧ (∀ r_2 : Option Nat, r_2 = hR h 0 x0 → (∃ a_3 : Nat, r_2 = some a_3 ∧ (dp_Value_size cl a_3 [] h (gI (fun r_5 h_4 => Q (some (.int r_5)) h_4)) E))))) ∧ (¬ x1 = 0 → ((x1 = 1 → ((hT h x0 = 1) ∧ (∀ r_9 : Option Nat, r_9 = hR h 1 x0 → (∃ a_10 : Nat, r_9 = some a_10 ∧ ((hT h a_10 = 11) ∧ (Q (some (.int (hI h 35 a_10))) h)))))) ∧ (¬ x1 = 1 → ((x1 = 2 → (dp_GathersAllFaults_found cl x0 [] h (gR (fun r_13 h_12 => ∃ a_16 : Nat, r_13 = some a_16 ∧ ((hT h_12 a_16 = 9) ∧ (∀ r_17 : Option Nat, r_17 = hR h_12 28 a_16 → (∃ a_18 : Nat, r_17 = some a_18 ∧ ((hT h_12 a_18 = 7) ∧ (Q (some (.int (hI h_12 24 a_18))) h_12))))))) E)) ∧ (¬ x1 = 2 → ((x1 = 3 → (dp_GathersAllFaults_numbersOf cl x0 [] h (gI (fun r_21 h_20 => Q (some (.int r_21)) h_20)) E)) ∧ (¬ x1 = 3 → ((x1 = 4 → (dp_GathersAllFaults_greatestPath cl x0 [] h (gI (fun r_26 h_25 => Q (some (.int r_26)) h_25)) E)) ∧ (¬ x1 = 4 → ((x1 = 5 → (dp_GathersAllFaults_found cl x0 [] h (gR (fun r_31 h_30 => ∃ a_34 : Nat, r_31 = some a_34 ∧ ((hT h_30 a_34 = 9) ∧ (Q (some (.int (hI h_30 29 a_34))) h_30)))) E)) ∧ (¬ x1 = 5 → ((x1 = 6 → ((hT h x0 = 1) ∧ (Q (some (.int (hI h 6 x0))) h))) ∧ (¬ x1 = 6 → ((x1 = 7 → ((hT h x0 = 1) ∧ (Q (some (.int (hI h 8 x0))) h))) ∧ (¬ x1 = 7 → (cl 78 [.long ((x1 : Int32).toInt64), .long 11, .long 16] h (gI (fun r_38 h_37 => ((r_38 = 0 → (Q (some (.int (-9))) h_37)) ∧ (¬ r_38 = 0 → ((hT h_37 x0 = 1) ∧ (∀ r_42 : Option Nat, r_42 = hR h_37 9 x0 → (∃ a_43 : Nat, r_42 = some a_43 ∧ (hT h_37 a_43 = 101 ∧ (vp_in (x1 - 10) (hN h_37 a_43) ∧ (Q (some (.int (hA h_37 a_43 (x1 - 10).toNatClampNeg))) h_37)))))))))) E)))))))))))))))))
theorem wx_X0_count {l : Launch} (hst : l.stackTraces = false) {G : GG} {cl : CT} {lm : Nat × Nat} {Q : QT} {E : ET} {d2 : Nat} (hCl : CallsOK l G d2 cl ∧ hLm G lm ∧ 8 ≤ d2 ∧ LamsOK l G d2 cl) {x0 : Nat} {x1 : Int32} {h : HS} (hw : wb_X0_count cl lm Q E x0 x1 h) : HMet l G yX0_count (ws_ yX0_count cX0_count 2 ((Option.some Jvm.ClassFile.FieldType.int))) (d2 + 1) [.ref x0, .int x1] h Q E := by
  refine gh_met (own := RX0) rfl (by decide +kernel) hst (by simp only [lg_sl_i, lg_sl_r, lg_sl_a, lg_sl_2, lg_sl_f, lg_sl_0]; decide) (fun X hXl hXn hret hnm hTb h0 eh C S0 => ?_)
  subst hXl
  have hlm := hCl.2.1
  have hd8 := hCl.2.2.1
  have hd2 : 1 ≤ d2 := Nat.le_trans (by decide) hd8
  have hLa := hCl.2.2.2
  have hd1 : 1 ≤ d2 + 1 := Nat.le_add_left _ _
  have hC9 := hCl
  replace hCl := hCl.1
  have hini : True := trivial
  unfold wb_X0_count at hw
  refine GK.sub (lv' := [(0, .ref x0), (1, .int x1)]) [0, 1] (by simp only [lv_args_i, lv_args_r, lv_args_a, lv_args_l, lv_args_f, lv_args_0]; rfl) ?_
  refine gk_iload_n (pc := 0) C.1 1 dX0_count_0 rfl rfl ?_
  by_cases c_1 : x1 = 0
  · replace hw := hw.1 c_1
    refine gk_tableIn (pc := 1) (off := 47) (tgt := 48) C.1 dX0_count_1 (by rw [c_1]; decide) (by rw [c_1]; decide) (by rw [c_1]; decide) (by decide) ?_
    refine gk_aload_n (pc := 48) C.1 0 dX0_count_48 rfl rfl ?_
    obtain ⟨ht, hw⟩ := hw
    refine gf_X0_66 (pc := 49) C ht dX0_count_49 (fun r_2 er_2 => ?_)
    replace hw := hw r_2 er_2
    obtain ⟨a_3, rfl, hw⟩ := hw
    refine gc_X0_54 (pc := 52) (As := []) (rest := []) C hCl (Nat.le_refl _) hw rfl rfl (Nat.le_of_ble_eq_true rfl) dX0_count_52 (fun v9 h_4 hp => ?_) (fun q_6 h_7 hw ht9 => ?_)
    rotate_left
    · exact gx_out C S0 (by rw [hTb]; decide) ht9 hw
    clear hw
    obtain ⟨r_5, rfl, hw⟩ := hp
    refine GK.at (p2 := 55) rfl ?_
    exact gh_iret (pc := 55) C S0 hret dX0_count_55 hw
  · replace hw := hw.2 c_1
    by_cases c_8 : x1 = 1
    · replace hw := hw.1 c_8
      refine gk_tableIn (pc := 1) (off := 55) (tgt := 56) C.1 dX0_count_1 (by rw [c_8]; decide) (by rw [c_8]; decide) (by rw [c_8]; decide) (by decide) ?_
      refine gk_aload_n (pc := 56) C.1 0 dX0_count_56 rfl rfl ?_
      obtain ⟨ht, hw⟩ := hw
      refine gf_X0_73 (pc := 57) C ht dX0_count_57 (fun r_9 er_9 => ?_)
      replace hw := hw r_9 er_9
      obtain ⟨a_10, rfl, hw⟩ := hw
      obtain ⟨ht, hw⟩ := hw
      refine gf_X0_137 (pc := 60) C ht dX0_count_60 ?_
      exact gh_iret (pc := 63) C S0 hret dX0_count_63 hw
    · replace hw := hw.2 c_8
      by_cases c_11 : x1 = 2
      · replace hw := hw.1 c_11
        refine gk_tableIn (pc := 1) (off := 63) (tgt := 64) C.1 dX0_count_1 (by rw [c_11]; decide) (by rw [c_11]; decide) (by rw [c_11]; decide) (by decide) ?_
        refine gk_aload_n (pc := 64) C.1 0 dX0_count_64 rfl rfl ?_
        refine gc_X0_229 (pc := 65) (As := []) (rest := []) C hCl (Nat.le_refl _) hw rfl rfl (Nat.le_of_ble_eq_true rfl) dX0_count_65 (fun v9 h_12 hp => ?_) (fun q_14 h_15 hw ht9 => ?_)
        rotate_left
        · exact gx_out C S0 (by rw [hTb]; decide) ht9 hw
        clear hw
        obtain ⟨r_13, rfl, hw⟩ := hp
        refine GK.at (p2 := 68) rfl ?_
        obtain ⟨a_16, rfl, hw⟩ := hw
        obtain ⟨ht, hw⟩ := hw
        refine gf_X0_221 (pc := 68) C ht dX0_count_68 (fun r_17 er_17 => ?_)
        replace hw := hw r_17 er_17
        obtain ⟨a_18, rfl, hw⟩ := hw
        obtain ⟨ht, hw⟩ := hw
        refine gf_X0_149 (pc := 71) C ht dX0_count_71 ?_
        exact gh_iret (pc := 74) C S0 hret dX0_count_74 hw
      · replace hw := hw.2 c_11
        by_cases c_19 : x1 = 3
        · replace hw := hw.1 c_19
          refine gk_tableIn (pc := 1) (off := 74) (tgt := 75) C.1 dX0_count_1 (by rw [c_19]; decide) (by rw [c_19]; decide) (by rw [c_19]; decide) (by decide) ?_
          refine gk_aload_n (pc := 75) C.1 0 dX0_count_75 rfl rfl ?_
          refine gc_X0_465 (pc := 76) (As := []) (rest := []) C hCl (Nat.le_refl _) hw rfl rfl (Nat.le_of_ble_eq_true rfl) dX0_count_76 (fun v9 h_20 hp => ?_) (fun q_22 h_23 hw ht9 => ?_)
          rotate_left
          · exact gx_out C S0 (by rw [hTb]; decide) ht9 hw
          clear hw
          obtain ⟨r_21, rfl, hw⟩ := hp
          refine GK.at (p2 := 79) rfl ?_
          exact gh_iret (pc := 79) C S0 hret dX0_count_79 hw
        · replace hw := hw.2 c_19
          by_cases c_24 : x1 = 4
          · replace hw := hw.1 c_24
            refine gk_tableIn (pc := 1) (off := 79) (tgt := 80) C.1 dX0_count_1 (by rw [c_24]; decide) (by rw [c_24]; decide) (by rw [c_24]; decide) (by decide) ?_
            refine gk_aload_n (pc := 80) C.1 0 dX0_count_80 rfl rfl ?_
            refine gc_X0_468 (pc := 81) (As := []) (rest := []) C hCl (Nat.le_refl _) hw rfl rfl (Nat.le_of_ble_eq_true rfl) dX0_count_81 (fun v9 h_25 hp => ?_) (fun q_27 h_28 hw ht9 => ?_)
            rotate_left
            · exact gx_out C S0 (by rw [hTb]; decide) ht9 hw
            clear hw
            obtain ⟨r_26, rfl, hw⟩ := hp
            refine GK.at (p2 := 84) rfl ?_
            exact gh_iret (pc := 84) C S0 hret dX0_count_84 hw
          · replace hw := hw.2 c_24
            by_cases c_29 : x1 = 5
            · replace hw := hw.1 c_29
              refine gk_tableIn (pc := 1) (off := 84) (tgt := 85) C.1 dX0_count_1 (by rw [c_29]; decide) (by rw [c_29]; decide) (by rw [c_29]; decide) (by decide) ?_
              refine gk_aload_n (pc := 85) C.1 0 dX0_count_85 rfl rfl ?_
              refine gc_X0_229 (pc := 86) (As := []) (rest := []) C hCl (Nat.le_refl _) hw rfl rfl (Nat.le_of_ble_eq_true rfl) dX0_count_86 (fun v9 h_30 hp => ?_) (fun q_32 h_33 hw ht9 => ?_)
              rotate_left
              · exact gx_out C S0 (by rw [hTb]; decide) ht9 hw
              clear hw
              obtain ⟨r_31, rfl, hw⟩ := hp
              refine GK.at (p2 := 89) rfl ?_
              obtain ⟨a_34, rfl, hw⟩ := hw
              obtain ⟨ht, hw⟩ := hw
              refine gf_X0_384 (pc := 89) C ht dX0_count_89 ?_
              exact gh_iret (pc := 92) C S0 hret dX0_count_92 hw
            · replace hw := hw.2 c_29
              by_cases c_35 : x1 = 6
              · replace hw := hw.1 c_35
                refine gk_tableIn (pc := 1) (off := 92) (tgt := 93) C.1 dX0_count_1 (by rw [c_35]; decide) (by rw [c_35]; decide) (by rw [c_35]; decide) (by decide) ?_
                refine gk_aload_n (pc := 93) C.1 0 dX0_count_93 rfl rfl ?_
                obtain ⟨ht, hw⟩ := hw
                refine gf_X0_301 (pc := 94) C ht dX0_count_94 ?_
                exact gh_iret (pc := 97) C S0 hret dX0_count_97 hw
              · replace hw := hw.2 c_35
                by_cases c_36 : x1 = 7
                · replace hw := hw.1 c_36
                  refine gk_tableIn (pc := 1) (off := 97) (tgt := 98) C.1 dX0_count_1 (by rw [c_36]; decide) (by rw [c_36]; decide) (by rw [c_36]; decide) (by decide) ?_
                  refine gk_aload_n (pc := 98) C.1 0 dX0_count_98 rfl rfl ?_
                  obtain ⟨ht, hw⟩ := hw
                  refine gf_X0_123 (pc := 99) C ht dX0_count_99 ?_
                  exact gh_iret (pc := 102) C S0 hret dX0_count_102 hw
                · replace hw := hw.2 c_36
                  refine gk_tableOut (pc := 1) (tgt := 103) C.1 dX0_count_1 (by have z0 := lv_neT c_1 (a := 0) (by decide); have z1 := lv_neT c_8 (a := 1) (by decide); have z2 := lv_neT c_11 (a := 2) (by decide); have z3 := lv_neT c_19 (a := 3) (by decide); have z4 := lv_neT c_24 (a := 4) (by decide); have z5 := lv_neT c_29 (a := 5) (by decide); have z6 := lv_neT c_35 (a := 6) (by decide); have z7 := lv_neT c_36 (a := 7) (by decide); omega) (by decide) ?_
                  refine gk_iload_n (pc := 103) C.1 1 dX0_count_103 rfl rfl ?_
                  refine gk_i2l (pc := 104) C.1 dX0_count_104 ?_
                  refine gk_ldc2 (pc := 105) (v := 11) C.1 q2101 dX0_count_105 ?_
                  refine gk_ldc2 (pc := 108) (v := 16) C.1 q2102 dX0_count_108 ?_
                  refine gc_X0_13 (pc := 111) (As := [.long ((x1 : Int32).toInt64), .long 11, .long 16]) (rest := []) C hCl (Nat.le_refl _) hw rfl rfl (Nat.le_of_ble_eq_true rfl) dX0_count_111 (fun v9 h_37 hp => ?_) (fun q_39 h_40 hw ht9 => ?_)
                  rotate_left
                  · exact gx_out C S0 (by rw [hTb]; decide) ht9 hw
                  clear hw
                  obtain ⟨r_38, rfl, hw⟩ := hp
                  refine GK.at (p2 := 114) rfl ?_
                  refine gk_if_eq (pc := 114) (tgt := 129) C.1 dX0_count_114 (by decide) (fun c_41 => ?_) (fun c_41 => ?_)
                  · replace hw := hw.1 c_41
                    refine gk_bipush (pc := 129) (v := (-9)) C.1 dX0_count_129 (by decide) ?_
                    exact gh_iret (pc := 131) C S0 hret dX0_count_131 hw
                  · replace hw := hw.2 c_41
                    refine gk_aload_n (pc := 117) C.1 0 dX0_count_117 rfl rfl ?_
                    obtain ⟨ht, hw⟩ := hw
                    refine gf_X0_85 (pc := 118) C ht dX0_count_118 (fun r_42 er_42 => ?_)
                    replace hw := hw r_42 er_42
                    refine gk_iload_n (pc := 121) C.1 1 dX0_count_121 rfl rfl ?_
                    refine gk_bipush (pc := 122) (v := 10) C.1 dX0_count_122 (by decide) ?_
                    refine gk_isub (pc := 124) C.1 dX0_count_124 ?_
                    obtain ⟨a_43, rfl, hw⟩ := hw
                    obtain ⟨ht, hi, hw⟩ := hw
                    refine gh_iald (pc := 125) C ht hi dX0_count_125 ?_
                    refine gk_goto (pc := 126) (tgt := 131) C.1 dX0_count_126 (by decide) ?_
                    exact gh_iret (pc := 131) C S0 hret dX0_count_131 hw
/-! 59: GathersAllFaults.different()I -/
def wb_X0_different (cl : CT) (lm : Nat × Nat) (Q : QT) (E : ET) (x0 : Nat) (h : HS) : Prop := dp_GathersAllFaults_act cl x0 [.int 16, .int 0, .int 0, .int 0] h (gI (fun r_2 h_1 => Q (some (.int r_2)) h_1)) E
theorem wx_X0_different {l : Launch} (hst : l.stackTraces = false) {G : GG} {cl : CT} {lm : Nat × Nat} {Q : QT} {E : ET} {d2 : Nat} (hCl : CallsOK l G d2 cl ∧ hLm G lm ∧ 8 ≤ d2 ∧ LamsOK l G d2 cl) {x0 : Nat} {h : HS} (hw : wb_X0_different cl lm Q E x0 h) : HMet l G yX0_different (ws_ yX0_different cX0_different 1 ((Option.some Jvm.ClassFile.FieldType.int))) (d2 + 1) [.ref x0] h Q E := by
  refine gh_met (own := RX0) rfl (by decide +kernel) hst (by simp only [lg_sl_i, lg_sl_r, lg_sl_a, lg_sl_2, lg_sl_f, lg_sl_0]; decide) (fun X hXl hXn hret hnm hTb h0 eh C S0 => ?_)
  subst hXl
  have hlm := hCl.2.1
  have hd8 := hCl.2.2.1
  have hd2 : 1 ≤ d2 := Nat.le_trans (by decide) hd8
  have hLa := hCl.2.2.2
  have hd1 : 1 ≤ d2 + 1 := Nat.le_add_left _ _
  have hC9 := hCl
  replace hCl := hCl.1
  have hini : True := trivial
  unfold wb_X0_different at hw
  refine GK.sub (lv' := [(0, .ref x0)]) [0] (by simp only [lv_args_i, lv_args_r, lv_args_a, lv_args_l, lv_args_f, lv_args_0]; rfl) ?_
  refine gk_aload_n (pc := 0) C.1 0 dX0_different_0 rfl rfl ?_
  refine gk_bipush (pc := 1) (v := 16) C.1 dX0_different_1 (by decide) ?_
  refine gk_iconst (pc := 3) (v := 0) C.1 dX0_different_3 (by decide) ?_
  refine gk_iconst (pc := 4) (v := 0) C.1 dX0_different_4 (by decide) ?_
  refine gk_iconst (pc := 5) (v := 0) C.1 dX0_different_5 (by decide) ?_
  refine gc_X0_455 (pc := 6) (As := [.int 16, .int 0, .int 0, .int 0]) (rest := []) C hCl (Nat.le_refl _) hw rfl rfl (Nat.le_of_ble_eq_true rfl) dX0_different_6 (fun v9 h_1 hp => ?_) (fun q_3 h_4 hw ht9 => ?_)
  rotate_left
  · exact gx_out C S0 (by rw [hTb]; decide) ht9 hw
  clear hw
  obtain ⟨r_2, rfl, hw⟩ := hp
  refine GK.at (p2 := 9) rfl ?_
  exact gh_iret (pc := 9) C S0 hret dX0_different_9 hw
