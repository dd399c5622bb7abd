set_option maxRecDepth 100000
/-! 0: java/util/AbstractMap.<init>()V -/
def wb_J4_init (cl : CT) (lm : Nat × Nat) (Q : QT) (E : ET) (x0 : Nat) (h : HS) : Prop := Q none h
theorem wx_J4_init {l : Launch} (hst : l.stackTraces = false) {G : GG} {cl : CT} {lm : Nat × Nat} {Q : QT} {E : ET} {d2 : Nat} (hCl : CallsOK l G d2 cl ∧ hLm G lm ∧ 8 ≤ d2 ∧ LamsOK l G d2 cl) {x0 : Nat} {h : HS} (hw : wb_J4_init cl lm Q E x0 h) : HMet l G yJ4_init (ws_ yJ4_init cJ4_init 1 ((Option.none : Option Jvm.ClassFile.FieldType))) (d2 + 1) [.ref x0] h Q E := by
  refine gh_met (own := RJ4) rfl (by decide +kernel) hst (by simp only [lg_sl_i, lg_sl_r, lg_sl_a, lg_sl_2, lg_sl_f, lg_sl_0]; decide) (fun X hXl hXn hret hnm hTb h0 eh C S0 => ?_)
  subst hXl
  have hlm := hCl.2.1
  have hd8 := hCl.2.2.1
  have hd2 : 1 ≤ d2 := Nat.le_trans (by decide) hd8
  have hLa := hCl.2.2.2
  have hd1 : 1 ≤ d2 + 1 := Nat.le_add_left _ _
  have hC9 := hCl
  replace hCl := hCl.1
  have hini : (ev_h X).name = "<init>" := hnm.1
  unfold wb_J4_init at hw
  refine GK.sub (lv' := [(0, .ref x0)]) [0] (by simp only [lv_args_i, lv_args_r, lv_args_a, lv_args_l, lv_args_f, lv_args_0]; rfl) ?_
  refine gk_aload_n (pc := 0) C.1 0 dJ4_init_0 rfl rfl ?_
  refine gh_obj (pc := 1) C hd1 q513 (Nat.le_of_ble_eq_true rfl) dJ4_init_1 ?_
  exact gh_vret (pc := 4) C S0 hret dJ4_init_4 hw
/-! 1: java/util/HashMap.afterNodeAccess(Ljava/util/HashMap$Node;)V -/
def wb_J5_afterNodeAccess (cl : CT) (lm : Nat × Nat) (Q : QT) (E : ET) (x0 : Nat) (x1 : Option Nat) (h : HS) : Prop := Q none h
theorem wx_J5_afterNodeAccess {l : Launch} (hst : l.stackTraces = false) {G : GG} {cl : CT} {lm : Nat × Nat} {Q : QT} {E : ET} {d2 : Nat} (hCl : CallsOK l G d2 cl ∧ hLm G lm ∧ 8 ≤ d2 ∧ LamsOK l G d2 cl) {x0 : Nat} {x1 : Option Nat} {h : HS} (hw : wb_J5_afterNodeAccess cl lm Q E x0 x1 h) : HMet l G yJ5_afterNodeAccess (ws_ yJ5_afterNodeAccess cJ5_afterNodeAccess 2 ((Option.none : Option Jvm.ClassFile.FieldType))) (d2 + 1) [.ref x0, va_rf x1] h Q E := by
  refine gh_met (own := RJ5) rfl (by decide +kernel) hst (by simp only [lg_sl_i, lg_sl_r, lg_sl_a, lg_sl_2, lg_sl_f, lg_sl_0]; decide) (fun X hXl hXn hret hnm hTb h0 eh C S0 => ?_)
  subst hXl
  have hlm := hCl.2.1
  have hd8 := hCl.2.2.1
  have hd2 : 1 ≤ d2 := Nat.le_trans (by decide) hd8
  have hLa := hCl.2.2.2
  have hd1 : 1 ≤ d2 + 1 := Nat.le_add_left _ _
  have hC9 := hCl
  replace hCl := hCl.1
  have hini : True := trivial
  unfold wb_J5_afterNodeAccess at hw
  refine GK.sub (lv' := [(0, .ref x0), (1, va_rf x1)]) [0, 1] (by simp only [lv_args_i, lv_args_r, lv_args_a, lv_args_l, lv_args_f, lv_args_0]; rfl) ?_
  exact gh_vret (pc := 0) C S0 hret dJ5_afterNodeAccess_0 hw
/-! 2: java/util/HashMap.afterNodeInsertion(Z)V -/
def wb_J5_afterNodeInsertion (cl : CT) (lm : Nat × Nat) (Q : QT) (E : ET) (x0 : Nat) (x1 : Int32) (h : HS) : Prop := Q none h
theorem wx_J5_afterNodeInsertion {l : Launch} (hst : l.stackTraces = false) {G : GG} {cl : CT} {lm : Nat × Nat} {Q : QT} {E : ET} {d2 : Nat} (hCl : CallsOK l G d2 cl ∧ hLm G lm ∧ 8 ≤ d2 ∧ LamsOK l G d2 cl) {x0 : Nat} {x1 : Int32} {h : HS} (hw : wb_J5_afterNodeInsertion cl lm Q E x0 x1 h) : HMet l G yJ5_afterNodeInsertion (ws_ yJ5_afterNodeInsertion cJ5_afterNodeInsertion 2 ((Option.none : Option Jvm.ClassFile.FieldType))) (d2 + 1) [.ref x0, .int x1] h Q E := by
  refine gh_met (own := RJ5) rfl (by decide +kernel) hst (by simp only [lg_sl_i, lg_sl_r, lg_sl_a, lg_sl_2, lg_sl_f, lg_sl_0]; decide) (fun X hXl hXn hret hnm hTb h0 eh C S0 => ?_)
  subst hXl
  have hlm := hCl.2.1
  have hd8 := hCl.2.2.1
  have hd2 : 1 ≤ d2 := Nat.le_trans (by decide) hd8
  have hLa := hCl.2.2.2
  have hd1 : 1 ≤ d2 + 1 := Nat.le_add_left _ _
  have hC9 := hCl
  replace hCl := hCl.1
  have hini : True := trivial
  unfold wb_J5_afterNodeInsertion at hw
  refine GK.sub (lv' := [(0, .ref x0), (1, .int x1)]) [0, 1] (by simp only [lv_args_i, lv_args_r, lv_args_a, lv_args_l, lv_args_f, lv_args_0]; rfl) ?_
  exact gh_vret (pc := 0) C S0 hret dJ5_afterNodeInsertion_0 hw
/-! 3: java/util/HashMap.containsKey(Ljava/lang/Object;)Z -/
def wb_J5_containsKey (cl : CT) (lm : Nat × Nat) (Q : QT) (E : ET) (x0 : Nat) (x1 : Option Nat) (h : HS) : Prop := dp_HashMap_getNode cl x0 [va_rf x1] h (gR (fun r_2 h_1 => (r_2 = none → (Q (some (.int 0)) h_1)) ∧ (∀ a_6 : Nat, r_2 = some a_6 → (Q (some (.int 1)) h_1)))) E
theorem wx_J5_containsKey {l : Launch} (hst : l.stackTraces = false) {G : GG} {cl : CT} {lm : Nat × Nat} {Q : QT} {E : ET} {d2 : Nat} (hCl : CallsOK l G d2 cl ∧ hLm G lm ∧ 8 ≤ d2 ∧ LamsOK l G d2 cl) {x0 : Nat} {x1 : Option Nat} {h : HS} (hw : wb_J5_containsKey cl lm Q E x0 x1 h) : HMet l G yJ5_containsKey (ws_ yJ5_containsKey cJ5_containsKey 2 ((Option.some Jvm.ClassFile.FieldType.boolean))) (d2 + 1) [.ref x0, va_rf x1] h Q E := by
  refine gh_met (own := RJ5) rfl (by decide +kernel) hst (by simp only [lg_sl_i, lg_sl_r, lg_sl_a, lg_sl_2, lg_sl_f, lg_sl_0]; decide) (fun X hXl hXn hret hnm hTb h0 eh C S0 => ?_)
  subst hXl
  have hlm := hCl.2.1
  have hd8 := hCl.2.2.1
  have hd2 : 1 ≤ d2 := Nat.le_trans (by decide) hd8
  have hLa := hCl.2.2.2
  have hd1 : 1 ≤ d2 + 1 := Nat.le_add_left _ _
  have hC9 := hCl
  replace hCl := hCl.1
  have hini : True := trivial
  unfold wb_J5_containsKey at hw
  refine GK.sub (lv' := [(0, .ref x0), (1, va_rf x1)]) [0, 1] (by simp only [lv_args_i, lv_args_r, lv_args_a, lv_args_l, lv_args_f, lv_args_0]; rfl) ?_
  refine gk_aload_n (pc := 0) C.1 0 dJ5_containsKey_0 rfl rfl ?_
  refine gk_qload_n (pc := 1) C.1 1 dJ5_containsKey_1 rfl rfl ?_
  refine gc_J5_158 (pc := 2) (As := [va_rf x1]) (rest := []) C hCl (Nat.le_refl _) hw rfl rfl (Nat.le_of_ble_eq_true rfl) dJ5_containsKey_2 (fun v9 h_1 hp => ?_) (fun q_3 h_4 hw ht9 => ?_)
  rotate_left
  · exact gx_out C S0 (by rw [hTb]; decide) ht9 hw
  clear hw
  obtain ⟨r_2, rfl, hw⟩ := hp
  refine GK.at (p2 := 5) rfl ?_
  refine gk_ifnull (pc := 5) (tgt := 12) C.1 dJ5_containsKey_5 (by decide) (fun c_5 => ?_) (fun c_5 => ?_)
  · replace hw := hw.1 c_5
    subst c_5
    refine gk_iconst (pc := 12) (v := 0) C.1 dJ5_containsKey_12 (by decide) ?_
    exact gh_zret (pc := 13) C S0 hret dJ5_containsKey_13 bz0 hw
  · obtain ⟨a_6, c_5⟩ := Option.ne_none_iff_exists'.mp c_5
    replace hw := hw.2 a_6 c_5
    subst c_5
    refine gk_iconst (pc := 8) (v := 1) C.1 dJ5_containsKey_8 (by decide) ?_
    refine gk_goto (pc := 9) (tgt := 13) C.1 dJ5_containsKey_9 (by decide) ?_
    exact gh_zret (pc := 13) C S0 hret dJ5_containsKey_13 bz1 hw
/-! 4: java/util/HashMap.get(Ljava/lang/Object;)Ljava/lang/Object; -/
def wb_J5_get (cl : CT) (lm : Nat × Nat) (Q : QT) (E : ET) (x0 : Nat) (x1 : Option Nat) (h : HS) : Prop := dp_HashMap_getNode cl x0 [va_rf x1] h (gR (fun r_2 h_1 => (r_2 = none → (Q (some (va_rf none)) h_1)) ∧ (∀ a_6 : Nat, r_2 = some a_6 → ((hT h_1 a_6 = 21 ∨ hT h_1 a_6 = 22) ∧ (∀ r_7 : Option Nat, r_7 = hR h_1 73 a_6 → (Q (some (va_rf r_7)) h_1)))))) E
theorem wx_J5_get {l : Launch} (hst : l.stackTraces = false) {G : GG} {cl : CT} {lm : Nat × Nat} {Q : QT} {E : ET} {d2 : Nat} (hCl : CallsOK l G d2 cl ∧ hLm G lm ∧ 8 ≤ d2 ∧ LamsOK l G d2 cl) {x0 : Nat} {x1 : Option Nat} {h : HS} (hw : wb_J5_get cl lm Q E x0 x1 h) : HMet l G yJ5_get (ws_ yJ5_get cJ5_get 3 ((Option.some (Jvm.ClassFile.FieldType.object "java/lang/Object")))) (d2 + 1) [.ref x0, va_rf x1] h Q E := by
  refine gh_met (own := RJ5) rfl (by decide +kernel) hst (by simp only [lg_sl_i, lg_sl_r, lg_sl_a, lg_sl_2, lg_sl_f, lg_sl_0]; decide) (fun X hXl hXn hret hnm hTb h0 eh C S0 => ?_)
  subst hXl
  have hlm := hCl.2.1
  have hd8 := hCl.2.2.1
  have hd2 : 1 ≤ d2 := Nat.le_trans (by decide) hd8
  have hLa := hCl.2.2.2
  have hd1 : 1 ≤ d2 + 1 := Nat.le_add_left _ _
  have hC9 := hCl
  replace hCl := hCl.1
  have hini : True := trivial
  unfold wb_J5_get at hw
  refine GK.sub (lv' := [(0, .ref x0), (1, va_rf x1)]) [0, 1] (by simp only [lv_args_i, lv_args_r, lv_args_a, lv_args_l, lv_args_f, lv_args_0]; rfl) ?_
  refine gk_aload_n (pc := 0) C.1 0 dJ5_get_0 rfl rfl ?_
  refine gk_qload_n (pc := 1) C.1 1 dJ5_get_1 rfl rfl ?_
  refine gc_J5_158 (pc := 2) (As := [va_rf x1]) (rest := []) C hCl (Nat.le_refl _) hw rfl rfl (Nat.le_of_ble_eq_true rfl) dJ5_get_2 (fun v9 h_1 hp => ?_) (fun q_3 h_4 hw ht9 => ?_)
  rotate_left
  · exact gx_out C S0 (by rw [hTb]; decide) ht9 hw
  clear hw
  obtain ⟨r_2, rfl, hw⟩ := hp
  refine GK.at (p2 := 5) rfl ?_
  refine gk_dup (pc := 5) C.1 dJ5_get_5 (va_rf_cat _) ?_
  refine gk_qstore_n (pc := 6) (lv' := [(2, va_rf r_2), (0, Value.ref x0), (1, va_rf x1)]) C.1 dJ5_get_6 rfl (by rw [hXn]; decide) (by first | rfl | simp [va_rf_S, va_rf_cat, cat_i, cat_a, cat_l, cat_f, fin4_0, fin4_1, fin4_2, fin4_3]) ?_
  refine gk_ifnonnull (pc := 7) (tgt := 14) C.1 dJ5_get_7 (by decide) (fun c_5 => ?_) (fun c_5 => ?_)
  · obtain ⟨a_6, c_5⟩ := Option.ne_none_iff_exists'.mp c_5
    replace hw := hw.2 a_6 c_5
    subst c_5
    refine gk_aload_n (pc := 14) C.1 0 dJ5_get_14 rfl rfl ?_
    obtain ⟨ht, hw⟩ := hw
    refine gf_J5_162 (pc := 15) C ht dJ5_get_15 (fun r_7 er_7 => ?_)
    replace hw := hw r_7 er_7
    exact gh_aret (pc := 18) (r := r_7) C S0 hret (Or.inl ⟨_, rfl⟩) dJ5_get_18 hw
  · replace hw := hw.1 c_5
    subst c_5
    refine gk_null (pc := 10) C.1 dJ5_get_10 ?_
    refine gk_goto (pc := 11) (tgt := 18) C.1 dJ5_get_11 (by decide) ?_
    exact gh_aret (pc := 18) (r := none) C S0 hret (Or.inl ⟨_, rfl⟩) dJ5_get_18 hw
/-! 5: java/util/HashMap.getNode(Ljava/lang/Object;)Ljava/util/HashMap$Node; -/
def wb_J5_getNode_148 (cl : CT) (lm : Nat × Nat) (Q : QT) (E : ET) (h : HS) : Prop := Q (some (va_rf none)) h
theorem wk_J5_getNode_148 {X : Ev} {G : GG} {cl : CT} {lm : Nat × Nat} {Q : QT} {E : ET} {h0 : HS} {d2 : Nat} (C : HC X G RJ5 cJ5_getNode (d2 + 1)) (hCl : CallsOK (ev_l X) G d2 cl ∧ hLm G lm ∧ 8 ≤ d2 ∧ LamsOK (ev_l X) G d2 cl) (S0 : HS0 X h0) (hret : (ev_h X).sig.returnType = (Option.some (Jvm.ClassFile.FieldType.object "java/util/HashMap$Node"))) (hXn : ev_n X = 8) (hini : True) (hTb : (ev_c X).exceptionTable.toList = []) : ∀ (h : HS), wb_J5_getNode_148 cl lm Q E  h → GH X G h (hQ X G h0 Q E) 148 [] [] := by
  have hlm := hCl.2.1
  have hd8 := hCl.2.2.1
  have hd2 : 1 ≤ d2 := Nat.le_trans (by decide) hd8
  have hLa := hCl.2.2.2
  have hd1 : 1 ≤ d2 + 1 := Nat.le_add_left _ _
  have hC9 := hCl
  replace hCl := hCl.1
  intro  h hw
  unfold wb_J5_getNode_148 at hw
  refine gk_null (pc := 148) C.1 dJ5_getNode_148 ?_
  exact gh_aret (pc := 149) (r := none) C S0 hret (Or.inl ⟨_, rfl⟩) dJ5_getNode_149 hw
def wb_J5_getNode_137 (cl : CT) (lm : Nat × Nat) (Q : QT) (E : ET) (J99 : Option Nat → Option Nat → Int32 → HS → Prop) (x1 : Option Nat) (x4 : Option Nat) (x6 : Int32) (h : HS) : Prop := ∃ a_1 : Nat, x4 = some a_1 ∧ ((hT h a_1 = 21 ∨ hT h a_1 = 22) ∧ (∀ r_2 : Option Nat, r_2 = hR h 74 a_1 → ((r_2 = none → (wb_J5_getNode_148 cl lm Q E h)) ∧ (∀ a_4 : Nat, r_2 = some a_4 → (J99 x1 (some a_4) x6 h)))))
theorem wk_J5_getNode_137 {X : Ev} {G : GG} {cl : CT} {lm : Nat × Nat} {Q : QT} {E : ET} {h0 : HS} {d2 : Nat} {J99 : Option Nat → Option Nat → Int32 → HS → Prop} (C : HC X G RJ5 cJ5_getNode (d2 + 1)) (hCl : CallsOK (ev_l X) G d2 cl ∧ hLm G lm ∧ 8 ≤ d2 ∧ LamsOK (ev_l X) G d2 cl) (S0 : HS0 X h0) (hret : (ev_h X).sig.returnType = (Option.some (Jvm.ClassFile.FieldType.object "java/util/HashMap$Node"))) (hXn : ev_n X = 8) (hini : True) (hTb : (ev_c X).exceptionTable.toList = []) (hJ99 : ∀ (x1 : Option Nat) (x4 : Option Nat) (x6 : Int32) (h : HS), J99 x1 x4 x6 h → GH X G h (hQ X G h0 Q E) 99 [(1, va_rf x1), (4, va_rf x4), (6, .int x6)] []) : ∀ (x1 : Option Nat) (x4 : Option Nat) (x6 : Int32) (h : HS), wb_J5_getNode_137 cl lm Q E J99 x1 x4 x6 h → GH X G h (hQ X G h0 Q E) 137 [(1, va_rf x1), (4, va_rf x4), (6, .int x6)] [] := by
  have hlm := hCl.2.1
  have hd8 := hCl.2.2.1
  have hd2 : 1 ≤ d2 := Nat.le_trans (by decide) hd8
  have hLa := hCl.2.2.2
  have hd1 : 1 ≤ d2 + 1 := Nat.le_add_left _ _
  have hC9 := hCl
  replace hCl := hCl.1
  intro x1 x4 x6 h hw
  unfold wb_J5_getNode_137 at hw
  refine gk_qload (pc := 137) C.1 1 dJ5_getNode_137 rfl ?_
  obtain ⟨a_1, rfl, hw⟩ := hw
  obtain ⟨ht, hw⟩ := hw
  refine gf_J5_177 (pc := 139) C ht dJ5_getNode_139 (fun r_2 er_2 => ?_)
  replace hw := hw r_2 er_2
  refine gk_dup (pc := 142) C.1 dJ5_getNode_142 (va_rf_cat _) ?_
  refine gk_qstore (pc := 143) (lv' := [(4, va_rf r_2), (1, va_rf x1), (6, Value.int x6)]) C.1 dJ5_getNode_143 (by rw [hXn]; decide) (by first | rfl | simp [va_rf_S, va_rf_cat, cat_i, cat_a, cat_l, cat_f, fin4_0, fin4_1, fin4_2, fin4_3]) ?_
  refine gk_ifnonnull (pc := 145) (tgt := 99) C.1 dJ5_getNode_145 (by decide) (fun c_3 => ?_) (fun c_3 => ?_)
  · obtain ⟨a_4, c_3⟩ := Option.ne_none_iff_exists'.mp c_3
    replace hw := hw.2 a_4 c_3
    subst c_3
    refine GK.sub (lv' := [(1, va_rf x1), (4, va_rf (some a_4)), (6, .int x6)]) [1, 0, 2] rfl ?_
    exact hJ99 _ _ _ _ hw
  · replace hw := hw.1 c_3
    subst c_3
    refine GK.sub (lv' := []) [] rfl ?_
    exact wk_J5_getNode_148 C hC9 S0 hret hXn hini hTb   _ hw
def wb_J5_getNode_99 (cl : CT) (lm : Nat × Nat) (Q : QT) (E : ET) : Nat → Option Nat → Option Nat → Int32 → HS → Prop
  | 0 => fun _ _ _ _ => False
  | n + 1 => fun x1 x4 x6 h => ∃ a_1 : Nat, x4 = some a_1 ∧ ((hT h a_1 = 21 ∨ hT h a_1 = 22) ∧ (((¬ (hI h 71 a_1) = x6 → (wb_J5_getNode_137 cl lm Q E (fun yx1 yx4 yx6 yh => wb_J5_getNode_99 cl lm Q E n yx1 yx4 yx6 yh) x1 (some a_1) x6 h)) ∧ ((hI h 71 a_1) = x6 → ((hT h a_1 = 21 ∨ hT h a_1 = 22) ∧ (∀ r_3 : Option Nat, r_3 = hR h 72 a_1 → (((r_3 = x1 → (Q (some (va_rf (some a_1))) h)) ∧ (¬ r_3 = x1 → ((x1 = none → (wb_J5_getNode_137 cl lm Q E (fun yx1 yx4 yx6 yh => wb_J5_getNode_99 cl lm Q E n yx1 yx4 yx6 yh) none (some a_1) x6 h)) ∧ (∀ a_6 : Nat, x1 = some a_6 → (dp_Object_equals cl a_6 [va_rf r_3] h (gI (fun r_8 h_7 => ((r_8 = 0 → (wb_J5_getNode_137 cl lm Q E (fun yx1 yx4 yx6 yh => wb_J5_getNode_99 cl lm Q E n yx1 yx4 yx6 yh) (some a_6) (some a_1) x6 h_7)) ∧ (¬ r_8 = 0 → (Q (some (va_rf (some a_1))) h_7))))) E))))))))))))
theorem wk_J5_getNode_99 {X : Ev} {G : GG} {cl : CT} {lm : Nat × Nat} {Q : QT} {E : ET} {h0 : HS} {d2 : Nat} (C : HC X G RJ5 cJ5_getNode (d2 + 1)) (hCl : CallsOK (ev_l X) G d2 cl ∧ hLm G lm ∧ 8 ≤ d2 ∧ LamsOK (ev_l X) G d2 cl) (S0 : HS0 X h0) (hret : (ev_h X).sig.returnType = (Option.some (Jvm.ClassFile.FieldType.object "java/util/HashMap$Node"))) (hXn : ev_n X = 8) (hini : True) (hTb : (ev_c X).exceptionTable.toList = []) : ∀ (n : Nat) (x1 : Option Nat) (x4 : Option Nat) (x6 : Int32) (h : HS), wb_J5_getNode_99 cl lm Q E n x1 x4 x6 h → GH X G h (hQ X G h0 Q E) 99 [(1, va_rf x1), (4, va_rf x4), (6, .int x6)] [] := by
  have hlm := hCl.2.1
  have hd8 := hCl.2.2.1
  have hd2 : 1 ≤ d2 := Nat.le_trans (by decide) hd8
  have hLa := hCl.2.2.2
  have hd1 : 1 ≤ d2 + 1 := Nat.le_add_left _ _
  have hC9 := hCl
  replace hCl := hCl.1
  intro n
  induction n with
  | zero => intro x1 x4 x6 h hw; exact hw.elim
  | succ n ih =>
  intro x1 x4 x6 h hw
  unfold wb_J5_getNode_99 at hw
  refine gk_qload (pc := 99) C.1 1 dJ5_getNode_99 rfl ?_
  obtain ⟨a_1, rfl, hw⟩ := hw
  obtain ⟨ht, hw⟩ := hw
  refine gf_J5_168 (pc := 101) C ht dJ5_getNode_101 ?_
  refine gk_iload (pc := 104) C.1 2 dJ5_getNode_104 rfl ?_
  refine gk_icmp_ne (pc := 106) (tgt := 137) C.1 dJ5_getNode_106 (by decide) (fun c_2 => ?_) (fun c_2 => ?_)
  · replace hw := hw.1 c_2
    refine GK.sub (lv' := [(1, va_rf x1), (4, va_rf (some a_1)), (6, .int x6)]) [0, 1, 2] rfl ?_
    exact wk_J5_getNode_137 C hC9 S0 hret hXn hini hTb ih _ _ _ _ hw
  · replace hw := hw.2 c_2
    refine gk_aload (pc := 109) C.1 1 dJ5_getNode_109 rfl ?_
    obtain ⟨ht, hw⟩ := hw
    refine gf_J5_170 (pc := 111) C ht dJ5_getNode_111 (fun r_3 er_3 => ?_)
    replace hw := hw r_3 er_3
    refine gk_dup (pc := 114) C.1 dJ5_getNode_114 (va_rf_cat _) ?_
    refine gk_qstore (pc := 115) (lv' := [(7, va_rf r_3), (1, va_rf x1), (4, Value.ref a_1), (6, Value.int x6)]) C.1 dJ5_getNode_115 (by rw [hXn]; decide) (by first | rfl | simp [va_rf_S, va_rf_cat, cat_i, cat_a, cat_l, cat_f, fin4_0, fin4_1, fin4_2, fin4_3]) ?_
    refine gk_qload_n (pc := 117) C.1 1 dJ5_getNode_117 rfl rfl ?_
    refine gk_acmp_eq (pc := 118) (rx := r_3) (ry := x1) (tgt := 134) C.1 dJ5_getNode_118 (by decide) (fun c_4 => ?_) (fun c_4 => ?_)
    · replace hw := hw.1 c_4
      refine gk_aload (pc := 134) C.1 2 dJ5_getNode_134 rfl ?_
      exact gh_aret (pc := 136) (r := (some a_1)) C S0 hret (Or.inl ⟨_, rfl⟩) dJ5_getNode_136 hw
    · replace hw := hw.2 c_4
      refine gk_qload_n (pc := 121) C.1 1 dJ5_getNode_121 rfl rfl ?_
      refine gk_ifnull (pc := 122) (tgt := 137) C.1 dJ5_getNode_122 (by decide) (fun c_5 => ?_) (fun c_5 => ?_)
      · replace hw := hw.1 c_5
        subst c_5
        refine GK.sub (lv' := [(1, va_rf none), (4, va_rf (some a_1)), (6, .int x6)]) [1, 2, 3] rfl ?_
        exact wk_J5_getNode_137 C hC9 S0 hret hXn hini hTb ih _ _ _ _ hw
      · obtain ⟨a_6, c_5⟩ := Option.ne_none_iff_exists'.mp c_5
        replace hw := hw.2 a_6 c_5
        subst c_5
        refine gk_aload_n (pc := 125) C.1 1 dJ5_getNode_125 rfl rfl ?_
        refine gk_qload (pc := 126) C.1 0 dJ5_getNode_126 rfl ?_
        refine gc_J5_173 (pc := 128) (As := [va_rf r_3]) (rest := []) C hCl (Nat.le_refl _) hw rfl rfl (Nat.le_of_ble_eq_true rfl) dJ5_getNode_128 (fun v9 h_7 hp => ?_) (fun q_9 h_10 hw ht9 => ?_)
        rotate_left
        · exact gx_out C S0 (by rw [hTb]; decide) ht9 hw
        clear hw
        obtain ⟨r_8, rfl, hw⟩ := hp
        refine GK.at (p2 := 131) rfl ?_
        refine gk_if_eq (pc := 131) (tgt := 137) C.1 dJ5_getNode_131 (by decide) (fun c_11 => ?_) (fun c_11 => ?_)
        · replace hw := hw.1 c_11
          refine GK.sub (lv' := [(1, va_rf (some a_6)), (4, va_rf (some a_1)), (6, .int x6)]) [1, 2, 3] rfl ?_
          exact wk_J5_getNode_137 C hC9 S0 hret hXn hini hTb ih _ _ _ _ hw
        · replace hw := hw.2 c_11
          refine gk_aload (pc := 134) C.1 2 dJ5_getNode_134 rfl ?_
          exact gh_aret (pc := 136) (r := (some a_1)) C S0 hret (Or.inl ⟨_, rfl⟩) dJ5_getNode_136 hw
def wb_J5_getNode_71 (cl : CT) (lm : Nat × Nat) (Q : QT) (E : ET) (x1 : Option Nat) (x3 : Option Nat) (x6 : Int32) (h : HS) : Prop := ∃ a_1 : Nat, x3 = some a_1 ∧ ((hT h a_1 = 21 ∨ hT h a_1 = 22) ∧ (∀ r_2 : Option Nat, r_2 = hR h 74 a_1 → ((r_2 = none → (wb_J5_getNode_148 cl lm Q E h)) ∧ (∀ a_4 : Nat, r_2 = some a_4 → ((False ∧ True) ∨ ((hT h a_1 = 21 ∨ hT h a_1 = 22) ∧ (∃ fu : Nat, wb_J5_getNode_99 cl lm Q E fu x1 (some a_4) x6 h)))))))
theorem wk_J5_getNode_71 {X : Ev} {G : GG} {cl : CT} {lm : Nat × Nat} {Q : QT} {E : ET} {h0 : HS} {d2 : Nat} (C : HC X G RJ5 cJ5_getNode (d2 + 1)) (hCl : CallsOK (ev_l X) G d2 cl ∧ hLm G lm ∧ 8 ≤ d2 ∧ LamsOK (ev_l X) G d2 cl) (S0 : HS0 X h0) (hret : (ev_h X).sig.returnType = (Option.some (Jvm.ClassFile.FieldType.object "java/util/HashMap$Node"))) (hXn : ev_n X = 8) (hini : True) (hTb : (ev_c X).exceptionTable.toList = []) : ∀ (x1 : Option Nat) (x3 : Option Nat) (x6 : Int32) (h : HS), wb_J5_getNode_71 cl lm Q E x1 x3 x6 h → GH X G h (hQ X G h0 Q E) 71 [(1, va_rf x1), (3, va_rf x3), (6, .int x6)] [] := by
  have hlm := hCl.2.1
  have hd8 := hCl.2.2.1
  have hd2 : 1 ≤ d2 := Nat.le_trans (by decide) hd8
  have hLa := hCl.2.2.2
  have hd1 : 1 ≤ d2 + 1 := Nat.le_add_left _ _
  have hC9 := hCl
  replace hCl := hCl.1
  intro x1 x3 x6 h hw
  unfold wb_J5_getNode_71 at hw
  refine gk_qload_n (pc := 71) C.1 1 dJ5_getNode_71 rfl rfl ?_
  obtain ⟨a_1, rfl, hw⟩ := hw
  obtain ⟨ht, hw⟩ := hw
  refine gf_J5_177 (pc := 72) C ht dJ5_getNode_72 (fun r_2 er_2 => ?_)
  replace hw := hw r_2 er_2
  refine gk_dup (pc := 75) C.1 dJ5_getNode_75 (va_rf_cat _) ?_
  refine gk_qstore (pc := 76) (lv' := [(4, va_rf r_2), (1, va_rf x1), (3, Value.ref a_1), (6, Value.int x6)]) C.1 dJ5_getNode_76 (by rw [hXn]; decide) (by first | rfl | simp [va_rf_S, va_rf_cat, cat_i, cat_a, cat_l, cat_f, fin4_0, fin4_1, fin4_2, fin4_3]) ?_
  refine gk_ifnull (pc := 78) (tgt := 148) C.1 dJ5_getNode_78 (by decide) (fun c_3 => ?_) (fun c_3 => ?_)
  · replace hw := hw.1 c_3
    subst c_3
    refine GK.sub (lv' := []) [] rfl ?_
    exact wk_J5_getNode_148 C hC9 S0 hret hXn hini hTb   _ hw
  · obtain ⟨a_4, c_3⟩ := Option.ne_none_iff_exists'.mp c_3
    replace hw := hw.2 a_4 c_3
    subst c_3
    refine gk_aload_n (pc := 81) C.1 2 dJ5_getNode_81 rfl rfl ?_
    rcases hw with ⟨hs, hw⟩ | ⟨hs, hw⟩
    · exact hs.elim
    · refine gi_J5_180_n (pc := 82) (r := (some a_1)) C (fun z hz => by cases hz; exact hs) dJ5_getNode_82 ?_
      refine gk_if_eq (pc := 85) (tgt := 99) C.1 dJ5_getNode_85 (by decide) (fun c9 => ?_) (fun c9 => ?_)
      rotate_left
      · exact absurd rfl c9
      refine GK.sub (lv' := [(1, va_rf x1), (4, va_rf (some a_4)), (6, .int x6)]) [1, 0, 3] rfl ?_
      obtain ⟨n9, hw⟩ := hw
      exact wk_J5_getNode_99 C hC9 S0 hret hXn hini hTb  n9 _ _ _ _ hw
def wb_J5_getNode (cl : CT) (lm : Nat × Nat) (Q : QT) (E : ET) (x0 : Nat) (x1 : Option Nat) (h : HS) : Prop := (hT h x0 = 19 ∨ hT h x0 = 20) ∧ (∀ r_1 : Option Nat, r_1 = hR h 61 x0 → ((r_1 = none → (wb_J5_getNode_148 cl lm Q E h)) ∧ (∀ a_3 : Nat, r_1 = some a_3 → (hT h a_3 = 116 ∧ (∀ x_4 : Int32, x_4 = nI (hN h a_3) → (((x_4 ≤ 0 → (wb_J5_getNode_148 cl lm Q E h)) ∧ (¬ x_4 ≤ 0 → (cl 6 [va_rf x1] h (gI (fun r_7 h_6 => hT h_6 a_3 = 116 ∧ (vp_in ((x_4 - 1) &&& r_7) (hN h_6 a_3) ∧ (∀ r_10 : Option Nat, r_10 = hB h_6 a_3 ((x_4 - 1) &&& r_7).toNatClampNeg → ((r_10 = none → (wb_J5_getNode_148 cl lm Q E h_6)) ∧ (∀ a_12 : Nat, r_10 = some a_12 → ((hT h_6 a_12 = 21 ∨ hT h_6 a_12 = 22) ∧ (((¬ (hI h_6 71 a_12) = r_7 → (wb_J5_getNode_71 cl lm Q E x1 (some a_12) r_7 h_6)) ∧ ((hI h_6 71 a_12) = r_7 → ((hT h_6 a_12 = 21 ∨ hT h_6 a_12 = 22) ∧ (∀ r_14 : Option Nat, r_14 = hR h_6 72 a_12 → (((r_14 = x1 → (Q (some (va_rf (some a_12))) h_6)) ∧ (¬ r_14 = x1 → ((x1 = none → (wb_J5_getNode_71 cl lm Q E none (some a_12) r_7 h_6)) ∧ (∀ a_17 : Nat, x1 = some a_17 → (dp_Object_equals cl a_17 [va_rf r_14] h_6 (gI (fun r_19 h_18 => ((r_19 = 0 → (wb_J5_getNode_71 cl lm Q E (some a_17) (some a_12) r_7 h_18)) ∧ (¬ r_19 = 0 → (Q (some (va_rf (some a_12))) h_18))))) E)))))))))))))))))) E)))))))))
theorem wx_J5_getNode {l : Launch} (hst : l.stackTraces = false) {G : GG} {cl : CT} {lm : Nat × Nat} {Q : QT} {E : ET} {d2 : Nat} (hCl : CallsOK l G d2 cl ∧ hLm G lm ∧ 8 ≤ d2 ∧ LamsOK l G d2 cl) {x0 : Nat} {x1 : Option Nat} {h : HS} (hw : wb_J5_getNode cl lm Q E x0 x1 h) : HMet l G yJ5_getNode (ws_ yJ5_getNode cJ5_getNode 8 ((Option.some (Jvm.ClassFile.FieldType.object "java/util/HashMap$Node")))) (d2 + 1) [.ref x0, va_rf x1] h Q E := by
  refine gh_met (own := RJ5) rfl (by decide +kernel) hst (by simp only [lg_sl_i, lg_sl_r, lg_sl_a, lg_sl_2, lg_sl_f, lg_sl_0]; decide) (fun X hXl hXn hret hnm hTb h0 eh C S0 => ?_)
  subst hXl
  have hlm := hCl.2.1
  have hd8 := hCl.2.2.1
  have hd2 : 1 ≤ d2 := Nat.le_trans (by decide) hd8
  have hLa := hCl.2.2.2
  have hd1 : 1 ≤ d2 + 1 := Nat.le_add_left _ _
  have hC9 := hCl
  replace hCl := hCl.1
  have hini : True := trivial
  unfold wb_J5_getNode at hw
  refine GK.sub (lv' := [(0, .ref x0), (1, va_rf x1)]) [0, 1] (by simp only [lv_args_i, lv_args_r, lv_args_a, lv_args_l, lv_args_f, lv_args_0]; rfl) ?_
  refine gk_aload_n (pc := 0) C.1 0 dJ5_getNode_0 rfl rfl ?_
  obtain ⟨ht, hw⟩ := hw
  refine gf_J5_105 (pc := 1) C ht dJ5_getNode_1 (fun r_1 er_1 => ?_)
  replace hw := hw r_1 er_1
  refine gk_dup (pc := 4) C.1 dJ5_getNode_4 (va_rf_cat _) ?_
  refine gk_qstore_n (pc := 5) (lv' := [(2, va_rf r_1), (0, Value.ref x0), (1, va_rf x1)]) C.1 dJ5_getNode_5 rfl (by rw [hXn]; decide) (by first | rfl | simp [va_rf_S, va_rf_cat, cat_i, cat_a, cat_l, cat_f, fin4_0, fin4_1, fin4_2, fin4_3]) ?_
  refine gk_ifnull (pc := 6) (tgt := 148) C.1 dJ5_getNode_6 (by decide) (fun c_2 => ?_) (fun c_2 => ?_)
  · replace hw := hw.1 c_2
    subst c_2
    refine GK.sub (lv' := []) [] rfl ?_
    exact wk_J5_getNode_148 C hC9 S0 hret hXn hini hTb   _ hw
  · obtain ⟨a_3, c_2⟩ := Option.ne_none_iff_exists'.mp c_2
    replace hw := hw.2 a_3 c_2
    subst c_2
    refine gk_aload_n (pc := 9) C.1 0 dJ5_getNode_9 rfl rfl ?_
    obtain ⟨ht, hw⟩ := hw
    refine gh_len (pc := 10) (t0 := 8) (ty := tyA 116) C ht (by decide) rfl dJ5_getNode_10 ?_
    refine gk_dup (pc := 11) C.1 dJ5_getNode_11 rfl ?_
    obtain ⟨x_4, ex_4⟩ : ∃ z : Int32, z = nI (hN h a_3) := ⟨_, rfl⟩
    rw [← ex_4]
    replace hw := hw x_4 ex_4
    refine gk_istore (pc := 12) (lv' := [(5, Value.int x_4), (2, Value.ref a_3), (0, Value.ref x0), (1, va_rf x1)]) C.1 dJ5_getNode_12 (by rw [hXn]; decide) (by first | rfl | simp [va_rf_S, va_rf_cat, cat_i, cat_a, cat_l, cat_f, fin4_0, fin4_1, fin4_2, fin4_3]) ?_
    refine gk_if_le (pc := 14) (tgt := 148) C.1 dJ5_getNode_14 (by decide) (fun c_5 => ?_) (fun c_5 => ?_)
    · replace hw := hw.1 c_5
      refine GK.sub (lv' := []) [] rfl ?_
      exact wk_J5_getNode_148 C hC9 S0 hret hXn hini hTb   _ hw
    · replace hw := hw.2 c_5
      refine gk_aload_n (pc := 17) C.1 1 dJ5_getNode_17 rfl rfl ?_
      refine gk_iload (pc := 18) C.1 0 dJ5_getNode_18 rfl ?_
      refine gk_iconst (pc := 20) (v := 1) C.1 dJ5_getNode_20 (by decide) ?_
      refine gk_isub (pc := 21) C.1 dJ5_getNode_21 ?_
      refine gk_qload_n (pc := 22) C.1 3 dJ5_getNode_22 rfl rfl ?_
      refine gc_J5_149 (pc := 23) (As := [va_rf x1]) (rest := [.int (x_4 - 1), .ref a_3]) C hCl (Nat.le_refl _) hw rfl rfl (Nat.le_of_ble_eq_true rfl) dJ5_getNode_23 (fun v9 h_6 hp => ?_) (fun q_8 h_9 hw ht9 => ?_)
      rotate_left
      · exact gx_out C S0 (by rw [hTb]; decide) ht9 hw
      clear hw
      obtain ⟨r_7, rfl, hw⟩ := hp
      refine GK.at (p2 := 26) rfl ?_
      refine gk_dup (pc := 26) C.1 dJ5_getNode_26 rfl ?_
      refine gk_istore (pc := 27) (lv' := [(6, Value.int r_7), (5, Value.int x_4), (2, Value.ref a_3), (0, Value.ref x0), (1, va_rf x1)]) C.1 dJ5_getNode_27 (by rw [hXn]; decide) (by first | rfl | simp [va_rf_S, va_rf_cat, cat_i, cat_a, cat_l, cat_f, fin4_0, fin4_1, fin4_2, fin4_3]) ?_
      refine gk_iand (pc := 29) C.1 dJ5_getNode_29 ?_
      obtain ⟨ht, hi, hw⟩ := hw
      refine gh_aald (pc := 30) (t0 := 8) (E := "java/util/HashMap$Node") C ht (by decide) (by decide) rfl hi dJ5_getNode_30 ?_
      obtain ⟨r_10, er_10⟩ : ∃ z : Option Nat, z = hB h_6 a_3 ((x_4 - 1) &&& r_7).toNatClampNeg := ⟨_, rfl⟩
      rw [← er_10]
      replace hw := hw r_10 er_10
      refine gk_dup (pc := 31) C.1 dJ5_getNode_31 (va_rf_cat _) ?_
      refine gk_qstore_n (pc := 32) (lv' := [(3, va_rf r_10), (6, Value.int r_7), (5, Value.int x_4), (2, Value.ref a_3), (0, Value.ref x0), (1, va_rf x1)]) C.1 dJ5_getNode_32 rfl (by rw [hXn]; decide) (by first | rfl | simp [va_rf_S, va_rf_cat, cat_i, cat_a, cat_l, cat_f, fin4_0, fin4_1, fin4_2, fin4_3]) ?_
      refine gk_ifnull (pc := 33) (tgt := 148) C.1 dJ5_getNode_33 (by decide) (fun c_11 => ?_) (fun c_11 => ?_)
      · replace hw := hw.1 c_11
        subst c_11
        refine GK.sub (lv' := []) [] rfl ?_
        exact wk_J5_getNode_148 C hC9 S0 hret hXn hini hTb   _ hw
      · obtain ⟨a_12, c_11⟩ := Option.ne_none_iff_exists'.mp c_11
        replace hw := hw.2 a_12 c_11
        subst c_11
        refine gk_aload_n (pc := 36) C.1 0 dJ5_getNode_36 rfl rfl ?_
        obtain ⟨ht, hw⟩ := hw
        refine gf_J5_168 (pc := 37) C ht dJ5_getNode_37 ?_
        refine gk_iload (pc := 40) C.1 1 dJ5_getNode_40 rfl ?_
        refine gk_icmp_ne (pc := 42) (tgt := 71) C.1 dJ5_getNode_42 (by decide) (fun c_13 => ?_) (fun c_13 => ?_)
        · replace hw := hw.1 c_13
          refine GK.sub (lv' := [(1, va_rf x1), (3, va_rf (some a_12)), (6, .int r_7)]) [5, 0, 1] rfl ?_
          exact wk_J5_getNode_71 C hC9 S0 hret hXn hini hTb  _ _ _ _ hw
        · replace hw := hw.2 c_13
          refine gk_aload_n (pc := 45) C.1 0 dJ5_getNode_45 rfl rfl ?_
          obtain ⟨ht, hw⟩ := hw
          refine gf_J5_170 (pc := 46) C ht dJ5_getNode_46 (fun r_14 er_14 => ?_)
          replace hw := hw r_14 er_14
          refine gk_dup (pc := 49) C.1 dJ5_getNode_49 (va_rf_cat _) ?_
          refine gk_qstore (pc := 50) (lv' := [(7, va_rf r_14), (3, Value.ref a_12), (6, Value.int r_7), (5, Value.int x_4), (2, Value.ref a_3), (0, Value.ref x0), (1, va_rf x1)]) C.1 dJ5_getNode_50 (by rw [hXn]; decide) (by first | rfl | simp [va_rf_S, va_rf_cat, cat_i, cat_a, cat_l, cat_f, fin4_0, fin4_1, fin4_2, fin4_3]) ?_
          refine gk_qload_n (pc := 52) C.1 6 dJ5_getNode_52 rfl rfl ?_
          refine gk_acmp_eq (pc := 53) (rx := r_14) (ry := x1) (tgt := 69) C.1 dJ5_getNode_53 (by decide) (fun c_15 => ?_) (fun c_15 => ?_)
          · replace hw := hw.1 c_15
            refine gk_aload_n (pc := 69) C.1 1 dJ5_getNode_69 rfl rfl ?_
            exact gh_aret (pc := 70) (r := (some a_12)) C S0 hret (Or.inl ⟨_, rfl⟩) dJ5_getNode_70 hw
          · replace hw := hw.2 c_15
            refine gk_qload_n (pc := 56) C.1 6 dJ5_getNode_56 rfl rfl ?_
            refine gk_ifnull (pc := 57) (tgt := 71) C.1 dJ5_getNode_57 (by decide) (fun c_16 => ?_) (fun c_16 => ?_)
            · replace hw := hw.1 c_16
              subst c_16
              refine GK.sub (lv' := [(1, va_rf none), (3, va_rf (some a_12)), (6, .int r_7)]) [6, 1, 2] rfl ?_
              exact wk_J5_getNode_71 C hC9 S0 hret hXn hini hTb  _ _ _ _ hw
            · obtain ⟨a_17, c_16⟩ := Option.ne_none_iff_exists'.mp c_16
              replace hw := hw.2 a_17 c_16
              subst c_16
              refine gk_aload_n (pc := 60) C.1 6 dJ5_getNode_60 rfl rfl ?_
              refine gk_qload (pc := 61) C.1 0 dJ5_getNode_61 rfl ?_
              refine gc_J5_173 (pc := 63) (As := [va_rf r_14]) (rest := []) C hCl (Nat.le_refl _) hw rfl rfl (Nat.le_of_ble_eq_true rfl) dJ5_getNode_63 (fun v9 h_18 hp => ?_) (fun q_20 h_21 hw ht9 => ?_)
              rotate_left
              · exact gx_out C S0 (by rw [hTb]; decide) ht9 hw
              clear hw
              obtain ⟨r_19, rfl, hw⟩ := hp
              refine GK.at (p2 := 66) rfl ?_
              refine gk_if_eq (pc := 66) (tgt := 71) C.1 dJ5_getNode_66 (by decide) (fun c_22 => ?_) (fun c_22 => ?_)
              · replace hw := hw.1 c_22
                refine GK.sub (lv' := [(1, va_rf (some a_17)), (3, va_rf (some a_12)), (6, .int r_7)]) [6, 1, 2] rfl ?_
                exact wk_J5_getNode_71 C hC9 S0 hret hXn hini hTb  _ _ _ _ hw
              · replace hw := hw.2 c_22
                refine gk_aload_n (pc := 69) C.1 1 dJ5_getNode_69 rfl rfl ?_
                exact gh_aret (pc := 70) (r := (some a_12)) C S0 hret (Or.inl ⟨_, rfl⟩) dJ5_getNode_70 hw
/-! 6: java/util/HashMap.hash(Ljava/lang/Object;)I -/
def wb_J5_hash (cl : CT) (lm : Nat × Nat) (Q : QT) (E : ET) (x0 : Option Nat) (h : HS) : Prop := (x0 = none → (Q (some (.int 0)) h)) ∧ (∀ a_2 : Nat, x0 = some a_2 → (dp_Object_hashCode cl a_2 [] h (gI (fun r_4 h_3 => Q (some (.int (r_4 ^^^ ((r_4.toUInt32 >>> ((16 : Int32).toUInt32 &&& Int32.toUInt32 31)).toInt32)))) h_3)) E))
theorem wx_J5_hash {l : Launch} (hst : l.stackTraces = false) {G : GG} {cl : CT} {lm : Nat × Nat} {Q : QT} {E : ET} {d2 : Nat} (hCl : CallsOK l G d2 cl ∧ hLm G lm ∧ 8 ≤ d2 ∧ LamsOK l G d2 cl) {x0 : Option Nat} {h : HS} (hw : wb_J5_hash cl lm Q E x0 h) : HMet l G yJ5_hash (ws_ yJ5_hash cJ5_hash 2 ((Option.some Jvm.ClassFile.FieldType.int))) (d2 + 1) [va_rf x0] h Q E := by
  refine gh_met (own := RJ5) rfl (by decide +kernel) hst (by simp only [lg_sl_i, lg_sl_r, lg_sl_a, lg_sl_2, lg_sl_f, lg_sl_0]; decide) (fun X hXl hXn hret hnm hTb h0 eh C S0 => ?_)
  subst hXl
  have hlm := hCl.2.1
  have hd8 := hCl.2.2.1
  have hd2 : 1 ≤ d2 := Nat.le_trans (by decide) hd8
  have hLa := hCl.2.2.2
  have hd1 : 1 ≤ d2 + 1 := Nat.le_add_left _ _
  have hC9 := hCl
  replace hCl := hCl.1
  have hini : True := trivial
  unfold wb_J5_hash at hw
  refine GK.sub (lv' := [(0, va_rf x0)]) [0] (by simp only [lv_args_i, lv_args_r, lv_args_a, lv_args_l, lv_args_f, lv_args_0]; rfl) ?_
  refine gk_qload_n (pc := 0) C.1 0 dJ5_hash_0 rfl rfl ?_
  refine gk_ifnonnull (pc := 1) (tgt := 8) C.1 dJ5_hash_1 (by decide) (fun c_1 => ?_) (fun c_1 => ?_)
  · obtain ⟨a_2, c_1⟩ := Option.ne_none_iff_exists'.mp c_1
    replace hw := hw.2 a_2 c_1
    subst c_1
    refine gk_aload_n (pc := 8) C.1 0 dJ5_hash_8 rfl rfl ?_
    refine gc_J5_1 (pc := 9) (As := []) (rest := []) C hCl (Nat.le_refl _) hw rfl rfl (Nat.le_of_ble_eq_true rfl) dJ5_hash_9 (fun v9 h_3 hp => ?_) (fun q_5 h_6 hw ht9 => ?_)
    rotate_left
    · exact gx_out C S0 (by rw [hTb]; decide) ht9 hw
    clear hw
    obtain ⟨r_4, rfl, hw⟩ := hp
    refine GK.at (p2 := 12) rfl ?_
    refine gk_dup (pc := 12) C.1 dJ5_hash_12 rfl ?_
    refine gk_istore_n (pc := 13) (lv' := [(1, Value.int r_4), (0, Value.ref a_2)]) C.1 dJ5_hash_13 rfl (by rw [hXn]; decide) (by first | rfl | simp [va_rf_S, va_rf_cat, cat_i, cat_a, cat_l, cat_f, fin4_0, fin4_1, fin4_2, fin4_3]) ?_
    refine gk_iload_n (pc := 14) C.1 0 dJ5_hash_14 rfl rfl ?_
    refine gk_bipush (pc := 15) (v := 16) C.1 dJ5_hash_15 (by decide) ?_
    refine gk_iushr (pc := 17) C.1 dJ5_hash_17 ?_
    refine gk_ixor (pc := 18) C.1 dJ5_hash_18 ?_
    exact gh_iret (pc := 19) C S0 hret dJ5_hash_19 hw
  · replace hw := hw.1 c_1
    subst c_1
    refine gk_iconst (pc := 4) (v := 0) C.1 dJ5_hash_4 (by decide) ?_
    refine gk_goto (pc := 5) (tgt := 19) C.1 dJ5_hash_5 (by decide) ?_
    exact gh_iret (pc := 19) C S0 hret dJ5_hash_19 hw
/-! 7: java/util/HashMap.<init>()V -/
def wb_J5_init (cl : CT) (lm : Nat × Nat) (Q : QT) (E : ET) (x0 : Nat) (h : HS) : Prop := cl 0 (.ref x0 :: []) h (gV (fun h_1 => (hT h_1 x0 = 19 ∨ hT h_1 x0 = 20) ∧ (∀ h_4 : HS, h_4 = sI h_1 66 x0 ((1061158912 : UInt32).toInt32) → (Q none h_4)))) E
theorem wx_J5_init {l : Launch} (hst : l.stackTraces = false) {G : GG} {cl : CT} {lm : Nat × Nat} {Q : QT} {E : ET} {d2 : Nat} (hCl : CallsOK l G d2 cl ∧ hLm G lm ∧ 8 ≤ d2 ∧ LamsOK l G d2 cl) {x0 : Nat} {h : HS} (hw : wb_J5_init cl lm Q E x0 h) : HMet l G yJ5_init (ws_ yJ5_init cJ5_init 1 ((Option.none : Option Jvm.ClassFile.FieldType))) (d2 + 1) [.ref x0] h Q E := by
  refine gh_met (own := RJ5) rfl (by decide +kernel) hst (by simp only [lg_sl_i, lg_sl_r, lg_sl_a, lg_sl_2, lg_sl_f, lg_sl_0]; decide) (fun X hXl hXn hret hnm hTb h0 eh C S0 => ?_)
  subst hXl
  have hlm := hCl.2.1
  have hd8 := hCl.2.2.1
  have hd2 : 1 ≤ d2 := Nat.le_trans (by decide) hd8
  have hLa := hCl.2.2.2
  have hd1 : 1 ≤ d2 + 1 := Nat.le_add_left _ _
  have hC9 := hCl
  replace hCl := hCl.1
  have hini : (ev_h X).name = "<init>" := hnm.1
  unfold wb_J5_init at hw
  refine GK.sub (lv' := [(0, .ref x0)]) [0] (by simp only [lv_args_i, lv_args_r, lv_args_a, lv_args_l, lv_args_f, lv_args_0]; rfl) ?_
  refine gk_aload_n (pc := 0) C.1 0 dJ5_init_0 rfl rfl ?_
  refine gc_J5_43 (pc := 1) (As := []) (rest := []) C hCl (Nat.le_refl _) hw rfl rfl (Nat.le_of_ble_eq_true rfl) dJ5_init_1 (fun v9 h_1 hp => ?_) (fun q_2 h_3 hw ht9 => ?_)
  rotate_left
  · exact gx_out C S0 (by rw [hTb]; decide) ht9 hw
  clear hw
  obtain ⟨rfl, hw⟩ := hp
  refine GK.at (p2 := 4) rfl ?_
  refine gk_aload_n (pc := 4) C.1 0 dJ5_init_4 rfl rfl ?_
  refine gk_ldcf (pc := 5) (v := 1061158912) C.1 q514 dJ5_init_5 ?_
  obtain ⟨ht, hw⟩ := hw
  refine gfp_J5_81 (pc := 7) C hini ht dJ5_init_7 (fun h_4 eh_4 => ?_)
  replace hw := hw h_4 eh_4
  exact gh_vret (pc := 10) C S0 hret dJ5_init_10 hw
/-! 8: java/util/HashMap.newNode(ILjava/lang/Object;Ljava/lang/Object;Ljava/util/HashMap$Node;)Ljava/util/HashMap$Node; -/
def wb_J5_newNode (cl : CT) (lm : Nat × Nat) (Q : QT) (E : ET) (x0 : Nat) (x1 : Int32) (x2 : Option Nat) (x3 : Option Nat) (x4 : Option Nat) (h : HS) : Prop := hZ h + 1 ≤ lm.1 ∧ (hL h + 4 ≤ lm.2 ∧ (∀ (a_2 : Nat) (h_1 : HS), a_2 = hZ h → h_1 = hNew h 21 0 4 → (cl 32 (.ref a_2 :: [.int x1, va_rf x2, va_rf x3, va_rf x4]) h_1 (gV (fun h_3 => Q (some (va_rf (some a_2))) h_3)) E)))
theorem wx_J5_newNode {l : Launch} (hst : l.stackTraces = false) {G : GG} {cl : CT} {lm : Nat × Nat} {Q : QT} {E : ET} {d2 : Nat} (hCl : CallsOK l G d2 cl ∧ hLm G lm ∧ 8 ≤ d2 ∧ LamsOK l G d2 cl) {x0 : Nat} {x1 : Int32} {x2 : Option Nat} {x3 : Option Nat} {x4 : Option Nat} {h : HS} (hw : wb_J5_newNode cl lm Q E x0 x1 x2 x3 x4 h) : HMet l G yJ5_newNode (ws_ yJ5_newNode cJ5_newNode 5 ((Option.some (Jvm.ClassFile.FieldType.object "java/util/HashMap$Node")))) (d2 + 1) [.ref x0, .int x1, va_rf x2, va_rf x3, va_rf x4] h Q E := by
  refine gh_met (own := RJ5) rfl (by decide +kernel) hst (by simp only [lg_sl_i, lg_sl_r, lg_sl_a, lg_sl_2, lg_sl_f, lg_sl_0]; decide) (fun X hXl hXn hret hnm hTb h0 eh C S0 => ?_)
  subst hXl
  have hlm := hCl.2.1
  have hd8 := hCl.2.2.1
  have hd2 : 1 ≤ d2 := Nat.le_trans (by decide) hd8
  have hLa := hCl.2.2.2
  have hd1 : 1 ≤ d2 + 1 := Nat.le_add_left _ _
  have hC9 := hCl
  replace hCl := hCl.1
  have hini : True := trivial
  unfold wb_J5_newNode at hw
  refine GK.sub (lv' := [(0, .ref x0), (1, .int x1), (2, va_rf x2), (3, va_rf x3), (4, va_rf x4)]) [0, 1, 2, 3, 4] (by simp only [lv_args_i, lv_args_r, lv_args_a, lv_args_l, lv_args_f, lv_args_0]; rfl) ?_
  obtain ⟨hr1, hr2, hw⟩ := hw
  refine gn_J5_163 (pc := 0) C (hlm.1 ▸ hr1) (hlm.2 ▸ hr2) dJ5_newNode_0 (fun h_1 eh_1 => ?_)
  obtain ⟨a_2, ea_2⟩ : ∃ z : Nat, z = hZ h := ⟨_, rfl⟩
  rw [← ea_2]
  replace hw := hw a_2 h_1 ea_2 eh_1
  refine gk_dup (pc := 3) C.1 dJ5_newNode_3 rfl ?_
  refine gk_iload_n (pc := 4) C.1 1 dJ5_newNode_4 rfl rfl ?_
  refine gk_qload_n (pc := 5) C.1 2 dJ5_newNode_5 rfl rfl ?_
  refine gk_qload_n (pc := 6) C.1 3 dJ5_newNode_6 rfl rfl ?_
  refine gk_qload (pc := 7) C.1 4 dJ5_newNode_7 rfl ?_
  refine gc_J5_375 (pc := 9) (As := [.int x1, va_rf x2, va_rf x3, va_rf x4]) (rest := [.ref a_2]) C hCl (Nat.le_refl _) hw rfl rfl (Nat.le_of_ble_eq_true rfl) dJ5_newNode_9 (fun v9 h_3 hp => ?_) (fun q_4 h_5 hw ht9 => ?_)
  rotate_left
  · exact gx_out C S0 (by rw [hTb]; decide) ht9 hw
  clear hw
  obtain ⟨rfl, hw⟩ := hp
  refine GK.at (p2 := 12) rfl ?_
  exact gh_aret (pc := 12) (r := (some a_2)) C S0 hret (Or.inl ⟨_, rfl⟩) dJ5_newNode_12 hw
/-! 9: java/util/HashMap.put(Ljava/lang/Object;Ljava/lang/Object;)Ljava/lang/Object; -/
def wb_J5_put (cl : CT) (lm : Nat × Nat) (Q : QT) (E : ET) (x0 : Nat) (x1 : Option Nat) (x2 : Option Nat) (h : HS) : Prop := cl 6 [va_rf x1] h (gI (fun r_2 h_1 => dp_HashMap_putVal cl x0 [.int r_2, va_rf x1, va_rf x2, .int 0, .int 1] h_1 (gR (fun r_6 h_5 => Q (some (va_rf r_6)) h_5)) E)) E
theorem wx_J5_put {l : Launch} (hst : l.stackTraces = false) {G : GG} {cl : CT} {lm : Nat × Nat} {Q : QT} {E : ET} {d2 : Nat} (hCl : CallsOK l G d2 cl ∧ hLm G lm ∧ 8 ≤ d2 ∧ LamsOK l G d2 cl) {x0 : Nat} {x1 : Option Nat} {x2 : Option Nat} {h : HS} (hw : wb_J5_put cl lm Q E x0 x1 x2 h) : HMet l G yJ5_put (ws_ yJ5_put cJ5_put 3 ((Option.some (Jvm.ClassFile.FieldType.object "java/lang/Object")))) (d2 + 1) [.ref x0, va_rf x1, va_rf x2] h Q E := by
  refine gh_met (own := RJ5) rfl (by decide +kernel) hst (by simp only [lg_sl_i, lg_sl_r, lg_sl_a, lg_sl_2, lg_sl_f, lg_sl_0]; decide) (fun X hXl hXn hret hnm hTb h0 eh C S0 => ?_)
  subst hXl
  have hlm := hCl.2.1
  have hd8 := hCl.2.2.1
  have hd2 : 1 ≤ d2 := Nat.le_trans (by decide) hd8
  have hLa := hCl.2.2.2
  have hd1 : 1 ≤ d2 + 1 := Nat.le_add_left _ _
  have hC9 := hCl
  replace hCl := hCl.1
  have hini : True := trivial
  unfold wb_J5_put at hw
  refine GK.sub (lv' := [(0, .ref x0), (1, va_rf x1), (2, va_rf x2)]) [0, 1, 2] (by simp only [lv_args_i, lv_args_r, lv_args_a, lv_args_l, lv_args_f, lv_args_0]; rfl) ?_
  refine gk_aload_n (pc := 0) C.1 0 dJ5_put_0 rfl rfl ?_
  refine gk_qload_n (pc := 1) C.1 1 dJ5_put_1 rfl rfl ?_
  refine gc_J5_149 (pc := 2) (As := [va_rf x1]) (rest := [.ref x0]) C hCl (Nat.le_refl _) hw rfl rfl (Nat.le_of_ble_eq_true rfl) dJ5_put_2 (fun v9 h_1 hp => ?_) (fun q_3 h_4 hw ht9 => ?_)
  rotate_left
  · exact gx_out C S0 (by rw [hTb]; decide) ht9 hw
  clear hw
  obtain ⟨r_2, rfl, hw⟩ := hp
  refine GK.at (p2 := 5) rfl ?_
  refine gk_qload_n (pc := 5) C.1 1 dJ5_put_5 rfl rfl ?_
  refine gk_qload_n (pc := 6) C.1 2 dJ5_put_6 rfl rfl ?_
  refine gk_iconst (pc := 7) (v := 0) C.1 dJ5_put_7 (by decide) ?_
  refine gk_iconst (pc := 8) (v := 1) C.1 dJ5_put_8 (by decide) ?_
  refine gc_J5_152 (pc := 9) (As := [.int r_2, va_rf x1, va_rf x2, .int 0, .int 1]) (rest := []) C hCl (Nat.le_refl _) hw rfl rfl (Nat.le_of_ble_eq_true rfl) dJ5_put_9 (fun v9 h_5 hp => ?_) (fun q_7 h_8 hw ht9 => ?_)
  rotate_left
  · exact gx_out C S0 (by rw [hTb]; decide) ht9 hw
  clear hw
  obtain ⟨r_6, rfl, hw⟩ := hp
  refine GK.at (p2 := 12) rfl ?_
  exact gh_aret (pc := 12) (r := r_6) C S0 hret (Or.inl ⟨_, rfl⟩) dJ5_put_12 hw
/-! 10: java/util/HashMap.putVal(ILjava/lang/Object;Ljava/lang/Object;ZZ)Ljava/lang/Object; -/
def wb_J5_putVal_250 (cl : CT) (lm : Nat × Nat) (Q : QT) (E : ET) (x0 : Nat) (x10 : Option Nat) (x12 : Option Nat) (h : HS) : Prop := dp_HashMap_afterNodeAccess cl x0 [va_rf x10] h (gV (fun h_1 => Q (some (va_rf x12)) h_1)) E
theorem wk_J5_putVal_250 {X : Ev} {G : GG} {cl : CT} {lm : Nat × Nat} {Q : QT} {E : ET} {h0 : HS} {d2 : Nat} (C : HC X G RJ5 cJ5_putVal (d2 + 1)) (hCl : CallsOK (ev_l X) G d2 cl ∧ hLm G lm ∧ 8 ≤ d2 ∧ LamsOK (ev_l X) G d2 cl) (S0 : HS0 X h0) (hret : (ev_h X).sig.returnType = (Option.some (Jvm.ClassFile.FieldType.object "java/lang/Object"))) (hXn : ev_n X = 13) (hini : True) (hTb : (ev_c X).exceptionTable.toList = []) : ∀ (x0 : Nat) (x10 : Option Nat) (x12 : Option Nat) (h : HS), wb_J5_putVal_250 cl lm Q E x0 x10 x12 h → GH X G h (hQ X G h0 Q E) 250 [(0, .ref x0), (10, va_rf x10), (12, va_rf x12)] [] := by
  have hlm := hCl.2.1
  have hd8 := hCl.2.2.1
  have hd2 : 1 ≤ d2 := Nat.le_trans (by decide) hd8
  have hLa := hCl.2.2.2
  have hd1 : 1 ≤ d2 + 1 := Nat.le_add_left _ _
  have hC9 := hCl
  replace hCl := hCl.1
  intro x0 x10 x12 h hw
  unfold wb_J5_putVal_250 at hw
  refine gk_aload_n (pc := 250) C.1 0 dJ5_putVal_250 rfl rfl ?_
  refine gk_qload (pc := 251) C.1 1 dJ5_putVal_251 rfl ?_
  refine gc_J5_198 (pc := 253) (As := [va_rf x10]) (rest := []) C hCl (Nat.le_refl _) hw rfl rfl (Nat.le_of_ble_eq_true rfl) dJ5_putVal_253 (fun v9 h_1 hp => ?_) (fun q_2 h_3 hw ht9 => ?_)
  rotate_left
  · exact gx_out C S0 (by rw [hTb]; decide) ht9 hw
  clear hw
  obtain ⟨rfl, hw⟩ := hp
  refine GK.at (p2 := 256) rfl ?_
  refine gk_qload (pc := 256) C.1 2 dJ5_putVal_256 rfl ?_
  exact gh_aret (pc := 258) (r := x12) C S0 hret (Or.inl ⟨_, rfl⟩) dJ5_putVal_258 hw
def wb_J5_putVal_244 (cl : CT) (lm : Nat × Nat) (Q : QT) (E : ET) (x0 : Nat) (x3 : Option Nat) (x10 : Option Nat) (x12 : Option Nat) (h : HS) : Prop := ∃ a_1 : Nat, x10 = some a_1 ∧ ((hT h a_1 = 21 ∨ hT h a_1 = 22) ∧ (∀ h_2 : HS, h_2 = sR h 73 a_1 x3 → (wb_J5_putVal_250 cl lm Q E x0 (some a_1) x12 h_2)))
theorem wk_J5_putVal_244 {X : Ev} {G : GG} {cl : CT} {lm : Nat × Nat} {Q : QT} {E : ET} {h0 : HS} {d2 : Nat} (C : HC X G RJ5 cJ5_putVal (d2 + 1)) (hCl : CallsOK (ev_l X) G d2 cl ∧ hLm G lm ∧ 8 ≤ d2 ∧ LamsOK (ev_l X) G d2 cl) (S0 : HS0 X h0) (hret : (ev_h X).sig.returnType = (Option.some (Jvm.ClassFile.FieldType.object "java/lang/Object"))) (hXn : ev_n X = 13) (hini : True) (hTb : (ev_c X).exceptionTable.toList = []) : ∀ (x0 : Nat) (x3 : Option Nat) (x10 : Option Nat) (x12 : Option Nat) (h : HS), wb_J5_putVal_244 cl lm Q E x0 x3 x10 x12 h → GH X G h (hQ X G h0 Q E) 244 [(0, .ref x0), (3, va_rf x3), (10, va_rf x10), (12, va_rf x12)] [] := by
  have hlm := hCl.2.1
  have hd8 := hCl.2.2.1
  have hd2 : 1 ≤ d2 := Nat.le_trans (by decide) hd8
  have hLa := hCl.2.2.2
  have hd1 : 1 ≤ d2 + 1 := Nat.le_add_left _ _
  have hC9 := hCl
  replace hCl := hCl.1
  intro x0 x3 x10 x12 h hw
  unfold wb_J5_putVal_244 at hw
  refine gk_qload (pc := 244) C.1 2 dJ5_putVal_244 rfl ?_
  refine gk_qload_n (pc := 246) C.1 1 dJ5_putVal_246 rfl rfl ?_
  obtain ⟨a_1, rfl, hw⟩ := hw
  obtain ⟨ht, hw⟩ := hw
  refine gfp_J5_162 (pc := 247) (r := x3) C ht dJ5_putVal_247 (fun h_2 eh_2 => ?_)
  replace hw := hw h_2 eh_2
  refine GK.sub (lv' := [(0, .ref x0), (10, va_rf (some a_1)), (12, va_rf x12)]) [0, 2, 3] rfl ?_
  exact wk_J5_putVal_250 C hC9 S0 hret hXn hini hTb  _ _ _ _ hw
def wb_J5_putVal_292 (cl : CT) (lm : Nat × Nat) (Q : QT) (E : ET) (x0 : Nat) (x5 : Int32) (h : HS) : Prop := dp_HashMap_afterNodeInsertion cl x0 [.int x5] h (gV (fun h_1 => Q (some (va_rf none)) h_1)) E
theorem wk_J5_putVal_292 {X : Ev} {G : GG} {cl : CT} {lm : Nat × Nat} {Q : QT} {E : ET} {h0 : HS} {d2 : Nat} (C : HC X G RJ5 cJ5_putVal (d2 + 1)) (hCl : CallsOK (ev_l X) G d2 cl ∧ hLm G lm ∧ 8 ≤ d2 ∧ LamsOK (ev_l X) G d2 cl) (S0 : HS0 X h0) (hret : (ev_h X).sig.returnType = (Option.some (Jvm.ClassFile.FieldType.object "java/lang/Object"))) (hXn : ev_n X = 13) (hini : True) (hTb : (ev_c X).exceptionTable.toList = []) : ∀ (x0 : Nat) (x5 : Int32) (h : HS), wb_J5_putVal_292 cl lm Q E x0 x5 h → GH X G h (hQ X G h0 Q E) 292 [(0, .ref x0), (5, .int x5)] [] := by
  have hlm := hCl.2.1
  have hd8 := hCl.2.2.1
  have hd2 : 1 ≤ d2 := Nat.le_trans (by decide) hd8
  have hLa := hCl.2.2.2
  have hd1 : 1 ≤ d2 + 1 := Nat.le_add_left _ _
  have hC9 := hCl
  replace hCl := hCl.1
  intro x0 x5 h hw
  unfold wb_J5_putVal_292 at hw
  refine gk_aload_n (pc := 292) C.1 0 dJ5_putVal_292 rfl rfl ?_
  refine gk_iload (pc := 293) C.1 1 dJ5_putVal_293 rfl ?_
  refine gc_J5_205 (pc := 295) (As := [.int x5]) (rest := []) C hCl (Nat.le_refl _) hw rfl rfl (Nat.le_of_ble_eq_true rfl) dJ5_putVal_295 (fun v9 h_1 hp => ?_) (fun q_2 h_3 hw ht9 => ?_)
  rotate_left
  · exact gx_out C S0 (by rw [hTb]; decide) ht9 hw
  clear hw
  obtain ⟨rfl, hw⟩ := hp
  refine GK.at (p2 := 298) rfl ?_
  refine gk_null (pc := 298) C.1 dJ5_putVal_298 ?_
  exact gh_aret (pc := 299) (r := none) C S0 hret (Or.inl ⟨_, rfl⟩) dJ5_putVal_299 hw
def wb_J5_putVal_259 (cl : CT) (lm : Nat × Nat) (Q : QT) (E : ET) (x0 : Nat) (x5 : Int32) (h : HS) : Prop := (hT h x0 = 19 ∨ hT h x0 = 20) ∧ ((hT h x0 = 19 ∨ hT h x0 = 20) ∧ (∀ h_1 : HS, h_1 = sI h 64 x0 ((hI h 64 x0) + 1) → ((hT h_1 x0 = 19 ∨ hT h_1 x0 = 20) ∧ ((hT h_1 x0 = 19 ∨ hT h_1 x0 = 20) ∧ (∀ h_2 : HS, h_2 = sI h_1 63 x0 ((hI h_1 63 x0) + 1) → ((hT h_2 x0 = 19 ∨ hT h_2 x0 = 20) ∧ (((((hI h_1 63 x0) + 1) ≤ (hI h_2 65 x0) → (wb_J5_putVal_292 cl lm Q E x0 x5 h_2)) ∧ (¬ ((hI h_1 63 x0) + 1) ≤ (hI h_2 65 x0) → (dp_HashMap_resize cl x0 [] h_2 (gR (fun r_5 h_4 => wb_J5_putVal_292 cl lm Q E x0 x5 h_4)) E))))))))))
theorem wk_J5_putVal_259 {X : Ev} {G : GG} {cl : CT} {lm : Nat × Nat} {Q : QT} {E : ET} {h0 : HS} {d2 : Nat} (C : HC X G RJ5 cJ5_putVal (d2 + 1)) (hCl : CallsOK (ev_l X) G d2 cl ∧ hLm G lm ∧ 8 ≤ d2 ∧ LamsOK (ev_l X) G d2 cl) (S0 : HS0 X h0) (hret : (ev_h X).sig.returnType = (Option.some (Jvm.ClassFile.FieldType.object "java/lang/Object"))) (hXn : ev_n X = 13) (hini : True) (hTb : (ev_c X).exceptionTable.toList = []) : ∀ (x0 : Nat) (x5 : Int32) (h : HS), wb_J5_putVal_259 cl lm Q E x0 x5 h → GH X G h (hQ X G h0 Q E) 259 [(0, .ref x0), (5, .int x5)] [] := by
  have hlm := hCl.2.1
  have hd8 := hCl.2.2.1
  have hd2 : 1 ≤ d2 := Nat.le_trans (by decide) hd8
  have hLa := hCl.2.2.2
  have hd1 : 1 ≤ d2 + 1 := Nat.le_add_left _ _
  have hC9 := hCl
  replace hCl := hCl.1
  intro x0 x5 h hw
  unfold wb_J5_putVal_259 at hw
  refine gk_aload_n (pc := 259) C.1 0 dJ5_putVal_259 rfl rfl ?_
  refine gk_dup (pc := 260) C.1 dJ5_putVal_260 rfl ?_
  obtain ⟨ht, hw⟩ := hw
  refine gf_J5_202 (pc := 261) C ht dJ5_putVal_261 ?_
  refine gk_iconst (pc := 264) (v := 1) C.1 dJ5_putVal_264 (by decide) ?_
  refine gk_iadd (pc := 265) C.1 dJ5_putVal_265 ?_
  obtain ⟨ht, hw⟩ := hw
  refine gfp_J5_202 (pc := 266) C ht dJ5_putVal_266 (fun h_1 eh_1 => ?_)
  replace hw := hw h_1 eh_1
  refine gk_aload_n (pc := 269) C.1 0 dJ5_putVal_269 rfl rfl ?_
  refine gk_dup (pc := 270) C.1 dJ5_putVal_270 rfl ?_
  obtain ⟨ht, hw⟩ := hw
  refine gf_J5_156 (pc := 271) C ht dJ5_putVal_271 ?_
  refine gk_iconst (pc := 274) (v := 1) C.1 dJ5_putVal_274 (by decide) ?_
  refine gk_iadd (pc := 275) C.1 dJ5_putVal_275 ?_
  refine gk_dup_x1 (pc := 276) C.1 dJ5_putVal_276 rfl rfl ?_
  obtain ⟨ht, hw⟩ := hw
  refine gfp_J5_156 (pc := 277) C ht dJ5_putVal_277 (fun h_2 eh_2 => ?_)
  replace hw := hw h_2 eh_2
  refine gk_aload_n (pc := 280) C.1 0 dJ5_putVal_280 rfl rfl ?_
  obtain ⟨ht, hw⟩ := hw
  refine gf_J5_88 (pc := 281) C ht dJ5_putVal_281 ?_
  refine gk_icmp_le (pc := 284) (tgt := 292) C.1 dJ5_putVal_284 (by decide) (fun c_3 => ?_) (fun c_3 => ?_)
  · replace hw := hw.1 c_3
    refine GK.sub (lv' := [(0, .ref x0), (5, .int x5)]) [0, 1] rfl ?_
    exact wk_J5_putVal_292 C hC9 S0 hret hXn hini hTb  _ _ _ hw
  · replace hw := hw.2 c_3
    refine gk_aload_n (pc := 287) C.1 0 dJ5_putVal_287 rfl rfl ?_
    refine gc_J5_117 (pc := 288) (As := []) (rest := []) C hCl (Nat.le_refl _) hw rfl rfl (Nat.le_of_ble_eq_true rfl) dJ5_putVal_288 (fun v9 h_4 hp => ?_) (fun q_6 h_7 hw ht9 => ?_)
    rotate_left
    · exact gx_out C S0 (by rw [hTb]; decide) ht9 hw
    clear hw
    obtain ⟨r_5, rfl, hw⟩ := hp
    refine GK.at (p2 := 291) rfl ?_
    refine gk_pop (pc := 291) C.1 dJ5_putVal_291 (va_rf_cat _) ?_
    refine GK.sub (lv' := [(0, .ref x0), (5, .int x5)]) [0, 1] rfl ?_
    exact wk_J5_putVal_292 C hC9 S0 hret hXn hini hTb  _ _ _ hw
def wb_J5_putVal_222 (cl : CT) (lm : Nat × Nat) (Q : QT) (E : ET) (x0 : Nat) (x3 : Option Nat) (x4 : Int32) (x5 : Int32) (x10 : Option Nat) (h : HS) : Prop := (x10 = none → (wb_J5_putVal_259 cl lm Q E x0 x5 h)) ∧ (∀ a_2 : Nat, x10 = some a_2 → ((hT h a_2 = 21 ∨ hT h a_2 = 22) ∧ (∀ r_3 : Option Nat, r_3 = hR h 73 a_2 → (((x4 = 0 → (wb_J5_putVal_244 cl lm Q E x0 x3 (some a_2) r_3 h)) ∧ (¬ x4 = 0 → ((r_3 = none → (wb_J5_putVal_244 cl lm Q E x0 x3 (some a_2) none h)) ∧ (∀ a_6 : Nat, r_3 = some a_6 → (wb_J5_putVal_250 cl lm Q E x0 (some a_2) (some a_6) h)))))))))
theorem wk_J5_putVal_222 {X : Ev} {G : GG} {cl : CT} {lm : Nat × Nat} {Q : QT} {E : ET} {h0 : HS} {d2 : Nat} (C : HC X G RJ5 cJ5_putVal (d2 + 1)) (hCl : CallsOK (ev_l X) G d2 cl ∧ hLm G lm ∧ 8 ≤ d2 ∧ LamsOK (ev_l X) G d2 cl) (S0 : HS0 X h0) (hret : (ev_h X).sig.returnType = (Option.some (Jvm.ClassFile.FieldType.object "java/lang/Object"))) (hXn : ev_n X = 13) (hini : True) (hTb : (ev_c X).exceptionTable.toList = []) : ∀ (x0 : Nat) (x3 : Option Nat) (x4 : Int32) (x5 : Int32) (x10 : Option Nat) (h : HS), wb_J5_putVal_222 cl lm Q E x0 x3 x4 x5 x10 h → GH X G h (hQ X G h0 Q E) 222 [(0, .ref x0), (3, va_rf x3), (4, .int x4), (5, .int x5), (10, va_rf x10)] [] := by
  have hlm := hCl.2.1
  have hd8 := hCl.2.2.1
  have hd2 : 1 ≤ d2 := Nat.le_trans (by decide) hd8
  have hLa := hCl.2.2.2
  have hd1 : 1 ≤ d2 + 1 := Nat.le_add_left _ _
  have hC9 := hCl
  replace hCl := hCl.1
  intro x0 x3 x4 x5 x10 h hw
  unfold wb_J5_putVal_222 at hw
  refine gk_qload (pc := 222) C.1 4 dJ5_putVal_222 rfl ?_
  refine gk_ifnull (pc := 224) (tgt := 259) C.1 dJ5_putVal_224 (by decide) (fun c_1 => ?_) (fun c_1 => ?_)
  · replace hw := hw.1 c_1
    subst c_1
    refine GK.sub (lv' := [(0, .ref x0), (5, .int x5)]) [0, 3] rfl ?_
    exact wk_J5_putVal_259 C hC9 S0 hret hXn hini hTb  _ _ _ hw
  · obtain ⟨a_2, c_1⟩ := Option.ne_none_iff_exists'.mp c_1
    replace hw := hw.2 a_2 c_1
    subst c_1
    refine gk_aload (pc := 227) C.1 4 dJ5_putVal_227 rfl ?_
    obtain ⟨ht, hw⟩ := hw
    refine gf_J5_162 (pc := 229) C ht dJ5_putVal_229 (fun r_3 er_3 => ?_)
    replace hw := hw r_3 er_3
    refine gk_qstore (pc := 232) (lv' := [(12, va_rf r_3), (0, Value.ref x0), (3, va_rf x3), (4, Value.int x4), (5, Value.int x5), (10, Value.ref a_2)]) C.1 dJ5_putVal_232 (by rw [hXn]; decide) (by first | rfl | simp [va_rf_S, va_rf_cat, cat_i, cat_a, cat_l, cat_f, fin4_0, fin4_1, fin4_2, fin4_3]) ?_
    refine gk_iload (pc := 234) C.1 3 dJ5_putVal_234 rfl ?_
    refine gk_if_eq (pc := 236) (tgt := 244) C.1 dJ5_putVal_236 (by decide) (fun c_4 => ?_) (fun c_4 => ?_)
    · replace hw := hw.1 c_4
      refine GK.sub (lv' := [(0, .ref x0), (3, va_rf x3), (10, va_rf (some a_2)), (12, va_rf r_3)]) [1, 2, 5, 0] rfl ?_
      exact wk_J5_putVal_244 C hC9 S0 hret hXn hini hTb  _ _ _ _ _ hw
    · replace hw := hw.2 c_4
      refine gk_qload (pc := 239) C.1 0 dJ5_putVal_239 rfl ?_
      refine gk_ifnonnull (pc := 241) (tgt := 250) C.1 dJ5_putVal_241 (by decide) (fun c_5 => ?_) (fun c_5 => ?_)
      · obtain ⟨a_6, c_5⟩ := Option.ne_none_iff_exists'.mp c_5
        replace hw := hw.2 a_6 c_5
        subst c_5
        refine GK.sub (lv' := [(0, .ref x0), (10, va_rf (some a_2)), (12, va_rf (some a_6))]) [1, 5, 0] rfl ?_
        exact wk_J5_putVal_250 C hC9 S0 hret hXn hini hTb  _ _ _ _ hw
      · replace hw := hw.1 c_5
        subst c_5
        refine GK.sub (lv' := [(0, .ref x0), (3, va_rf x3), (10, va_rf (some a_2)), (12, va_rf none)]) [1, 2, 5, 0] rfl ?_
        exact wk_J5_putVal_244 C hC9 S0 hret hXn hini hTb  _ _ _ _ _ hw
def wb_J5_putVal_97 (cl : CT) (lm : Nat × Nat) (Q : QT) (E : ET) (x0 : Nat) (x3 : Option Nat) (x4 : Int32) (x5 : Int32) (x7 : Option Nat) (h : HS) : Prop := wb_J5_putVal_222 cl lm Q E x0 x3 x4 x5 x7 h
theorem wk_J5_putVal_97 {X : Ev} {G : GG} {cl : CT} {lm : Nat × Nat} {Q : QT} {E : ET} {h0 : HS} {d2 : Nat} (C : HC X G RJ5 cJ5_putVal (d2 + 1)) (hCl : CallsOK (ev_l X) G d2 cl ∧ hLm G lm ∧ 8 ≤ d2 ∧ LamsOK (ev_l X) G d2 cl) (S0 : HS0 X h0) (hret : (ev_h X).sig.returnType = (Option.some (Jvm.ClassFile.FieldType.object "java/lang/Object"))) (hXn : ev_n X = 13) (hini : True) (hTb : (ev_c X).exceptionTable.toList = []) : ∀ (x0 : Nat) (x3 : Option Nat) (x4 : Int32) (x5 : Int32) (x7 : Option Nat) (h : HS), wb_J5_putVal_97 cl lm Q E x0 x3 x4 x5 x7 h → GH X G h (hQ X G h0 Q E) 97 [(0, .ref x0), (3, va_rf x3), (4, .int x4), (5, .int x5), (7, va_rf x7)] [] := by
  have hlm := hCl.2.1
  have hd8 := hCl.2.2.1
  have hd2 : 1 ≤ d2 := Nat.le_trans (by decide) hd8
  have hLa := hCl.2.2.2
  have hd1 : 1 ≤ d2 + 1 := Nat.le_add_left _ _
  have hC9 := hCl
  replace hCl := hCl.1
  intro x0 x3 x4 x5 x7 h hw
  unfold wb_J5_putVal_97 at hw
  refine gk_qload (pc := 97) C.1 4 dJ5_putVal_97 rfl ?_
  refine gk_qstore (pc := 99) (lv' := [(10, va_rf x7), (0, Value.ref x0), (3, va_rf x3), (4, Value.int x4), (5, Value.int x5), (7, va_rf x7)]) C.1 dJ5_putVal_99 (by rw [hXn]; decide) (by first | rfl | simp [va_rf_S, va_rf_cat, cat_i, cat_a, cat_l, cat_f, fin4_0, fin4_1, fin4_2, fin4_3]) ?_
  refine gk_goto (pc := 101) (tgt := 222) C.1 dJ5_putVal_101 (by decide) ?_
  refine GK.sub (lv' := [(0, .ref x0), (3, va_rf x3), (4, .int x4), (5, .int x5), (10, va_rf x7)]) [1, 2, 3, 4, 0] rfl ?_
  exact wk_J5_putVal_222 C hC9 S0 hret hXn hini hTb  _ _ _ _ _ _ hw
def wb_J5_putVal_212 (cl : CT) (lm : Nat × Nat) (Q : QT) (E : ET) (J134 : Nat → Int32 → Option Nat → Option Nat → Int32 → Int32 → Option Nat → Option Nat → Int32 → HS → Prop) (x0 : Nat) (x1 : Int32) (x2 : Option Nat) (x3 : Option Nat) (x4 : Int32) (x5 : Int32) (x6 : Option Nat) (x10 : Option Nat) (x12 : Int32) (h : HS) : Prop := ∀ x_1 : Int32, x_1 = x12 + 1 → (J134 x0 x1 x2 x3 x4 x5 x6 x10 x_1 h)
theorem wk_J5_putVal_212 {X : Ev} {G : GG} {cl : CT} {lm : Nat × Nat} {Q : QT} {E : ET} {h0 : HS} {d2 : Nat} {J134 : Nat → Int32 → Option Nat → Option Nat → Int32 → Int32 → Option Nat → Option Nat → Int32 → HS → Prop} (C : HC X G RJ5 cJ5_putVal (d2 + 1)) (hCl : CallsOK (ev_l X) G d2 cl ∧ hLm G lm ∧ 8 ≤ d2 ∧ LamsOK (ev_l X) G d2 cl) (S0 : HS0 X h0) (hret : (ev_h X).sig.returnType = (Option.some (Jvm.ClassFile.FieldType.object "java/lang/Object"))) (hXn : ev_n X = 13) (hini : True) (hTb : (ev_c X).exceptionTable.toList = []) (hJ134 : ∀ (x0 : Nat) (x1 : Int32) (x2 : Option Nat) (x3 : Option Nat) (x4 : Int32) (x5 : Int32) (x6 : Option Nat) (x7 : Option Nat) (x12 : Int32) (h : HS), J134 x0 x1 x2 x3 x4 x5 x6 x7 x12 h → GH X G h (hQ X G h0 Q E) 134 [(0, .ref x0), (1, .int x1), (2, va_rf x2), (3, va_rf x3), (4, .int x4), (5, .int x5), (6, va_rf x6), (7, va_rf x7), (12, .int x12)] []) : ∀ (x0 : Nat) (x1 : Int32) (x2 : Option Nat) (x3 : Option Nat) (x4 : Int32) (x5 : Int32) (x6 : Option Nat) (x10 : Option Nat) (x12 : Int32) (h : HS), wb_J5_putVal_212 cl lm Q E J134 x0 x1 x2 x3 x4 x5 x6 x10 x12 h → GH X G h (hQ X G h0 Q E) 212 [(0, .ref x0), (1, .int x1), (2, va_rf x2), (3, va_rf x3), (4, .int x4), (5, .int x5), (6, va_rf x6), (10, va_rf x10), (12, .int x12)] [] := by
  have hlm := hCl.2.1
  have hd8 := hCl.2.2.1
  have hd2 : 1 ≤ d2 := Nat.le_trans (by decide) hd8
  have hLa := hCl.2.2.2
  have hd1 : 1 ≤ d2 + 1 := Nat.le_add_left _ _
  have hC9 := hCl
  replace hCl := hCl.1
  intro x0 x1 x2 x3 x4 x5 x6 x10 x12 h hw
  unfold wb_J5_putVal_212 at hw
  refine gk_qload (pc := 212) C.1 7 dJ5_putVal_212 rfl ?_
  refine gk_qstore (pc := 214) (lv' := [(7, va_rf x10), (0, Value.ref x0), (1, Value.int x1), (2, va_rf x2), (3, va_rf x3), (4, Value.int x4), (5, Value.int x5), (6, va_rf x6), (10, va_rf x10), (12, Value.int x12)]) C.1 dJ5_putVal_214 (by rw [hXn]; decide) (by first | rfl | simp [va_rf_S, va_rf_cat, cat_i, cat_a, cat_l, cat_f, fin4_0, fin4_1, fin4_2, fin4_3]) ?_
  obtain ⟨x_1, ex_1⟩ : ∃ z : Int32, z = x12 + 1 := ⟨_, rfl⟩
  replace hw := hw x_1 ex_1
  refine gk_iinc (pc := 216) (v := x_1) (lv' := [(12, Value.int x_1), (7, va_rf x10), (0, Value.ref x0), (1, Value.int x1), (2, va_rf x2), (3, va_rf x3), (4, Value.int x4), (5, Value.int x5), (6, va_rf x6), (10, va_rf x10)]) C.1 9 dJ5_putVal_216 rfl (by rw [ex_1]; rfl) (by rw [hXn]; decide) (by first | rfl | simp [va_rf_S, va_rf_cat, cat_i, cat_a, cat_l, cat_f, fin4_0, fin4_1, fin4_2, fin4_3]) ?_
  refine gk_goto (pc := 219) (tgt := 134) C.1 dJ5_putVal_219 (by decide) ?_
  refine GK.sub (lv' := [(0, .ref x0), (1, .int x1), (2, va_rf x2), (3, va_rf x3), (4, .int x4), (5, .int x5), (6, va_rf x6), (7, va_rf x10), (12, .int x_1)]) [2, 3, 4, 5, 6, 7, 8, 1, 0] rfl ?_
  exact hJ134 _ _ _ _ _ _ _ _ _ _ hw
def wb_J5_putVal_134 (cl : CT) (lm : Nat × Nat) (Q : QT) (E : ET) : Nat → Nat → Int32 → Option Nat → Option Nat → Int32 → Int32 → Option Nat → Option Nat → Int32 → HS → Prop
  | 0 => fun _ _ _ _ _ _ _ _ _ _ => False
  | n + 1 => fun x0 x1 x2 x3 x4 x5 x6 x7 x12 h => ∃ a_1 : Nat, x7 = some a_1 ∧ ((hT h a_1 = 21 ∨ hT h a_1 = 22) ∧ (∀ r_2 : Option Nat, r_2 = hR h 74 a_1 → ((r_2 = none → (dp_HashMap_newNode cl x0 [.int x1, va_rf x2, va_rf x3, va_rf none] h (gR (fun r_6 h_5 => (hT h_5 a_1 = 21 ∨ hT h_5 a_1 = 22) ∧ (∀ h_9 : HS, h_9 = sR h_5 74 a_1 r_6 → (((x12 < 7 → (wb_J5_putVal_222 cl lm Q E x0 x3 x4 x5 none h_9)) ∧ (¬ x12 < 7 → (dp_HashMap_treeifyBin cl x0 [va_rf x6, .int x1] h_9 (gV (fun h_11 => wb_J5_putVal_222 cl lm Q E x0 x3 x4 x5 none h_11)) E))))))) E)) ∧ (∀ a_4 : Nat, r_2 = some a_4 → ((hT h a_4 = 21 ∨ hT h a_4 = 22) ∧ (((¬ (hI h 71 a_4) = x1 → (wb_J5_putVal_212 cl lm Q E (fun yx0 yx1 yx2 yx3 yx4 yx5 yx6 yx7 yx12 yh => wb_J5_putVal_134 cl lm Q E n yx0 yx1 yx2 yx3 yx4 yx5 yx6 yx7 yx12 yh) x0 x1 x2 x3 x4 x5 x6 (some a_4) x12 h)) ∧ ((hI h 71 a_4) = x1 → ((hT h a_4 = 21 ∨ hT h a_4 = 22) ∧ (∀ r_15 : Option Nat, r_15 = hR h 72 a_4 → (((r_15 = x2 → (wb_J5_putVal_222 cl lm Q E x0 x3 x4 x5 (some a_4) h)) ∧ (¬ r_15 = x2 → ((x2 = none → (wb_J5_putVal_212 cl lm Q E (fun yx0 yx1 yx2 yx3 yx4 yx5 yx6 yx7 yx12 yh => wb_J5_putVal_134 cl lm Q E n yx0 yx1 yx2 yx3 yx4 yx5 yx6 yx7 yx12 yh) x0 x1 none x3 x4 x5 x6 (some a_4) x12 h)) ∧ (∀ a_18 : Nat, x2 = some a_18 → (dp_Object_equals cl a_18 [va_rf r_15] h (gI (fun r_20 h_19 => ((r_20 = 0 → (wb_J5_putVal_212 cl lm Q E (fun yx0 yx1 yx2 yx3 yx4 yx5 yx6 yx7 yx12 yh => wb_J5_putVal_134 cl lm Q E n yx0 yx1 yx2 yx3 yx4 yx5 yx6 yx7 yx12 yh) x0 x1 (some a_18) x3 x4 x5 x6 (some a_4) x12 h_19)) ∧ (¬ r_20 = 0 → (wb_J5_putVal_222 cl lm Q E x0 x3 x4 x5 (some a_4) h_19))))) E))))))))))))))))
theorem wk_J5_putVal_134 {X : Ev} {G : GG} {cl : CT} {lm : Nat × Nat} {Q : QT} {E : ET} {h0 : HS} {d2 : Nat} (C : HC X G RJ5 cJ5_putVal (d2 + 1)) (hCl : CallsOK (ev_l X) G d2 cl ∧ hLm G lm ∧ 8 ≤ d2 ∧ LamsOK (ev_l X) G d2 cl) (S0 : HS0 X h0) (hret : (ev_h X).sig.returnType = (Option.some (Jvm.ClassFile.FieldType.object "java/lang/Object"))) (hXn : ev_n X = 13) (hini : True) (hTb : (ev_c X).exceptionTable.toList = []) : ∀ (n : Nat) (x0 : Nat) (x1 : Int32) (x2 : Option Nat) (x3 : Option Nat) (x4 : Int32) (x5 : Int32) (x6 : Option Nat) (x7 : Option Nat) (x12 : Int32) (h : HS), wb_J5_putVal_134 cl lm Q E n x0 x1 x2 x3 x4 x5 x6 x7 x12 h → GH X G h (hQ X G h0 Q E) 134 [(0, .ref x0), (1, .int x1), (2, va_rf x2), (3, va_rf x3), (4, .int x4), (5, .int x5), (6, va_rf x6), (7, va_rf x7), (12, .int x12)] [] := by
  have hlm := hCl.2.1
  have hd8 := hCl.2.2.1
  have hd2 : 1 ≤ d2 := Nat.le_trans (by decide) hd8
  have hLa := hCl.2.2.2
  have hd1 : 1 ≤ d2 + 1 := Nat.le_add_left _ _
  have hC9 := hCl
  replace hCl := hCl.1
  intro n
  induction n with
  | zero => intro x0 x1 x2 x3 x4 x5 x6 x7 x12 h hw; exact hw.elim
  | succ n ih =>
  intro x0 x1 x2 x3 x4 x5 x6 x7 x12 h hw
  unfold wb_J5_putVal_134 at hw
  refine gk_qload (pc := 134) C.1 7 dJ5_putVal_134 rfl ?_
  obtain ⟨a_1, rfl, hw⟩ := hw
  obtain ⟨ht, hw⟩ := hw
  refine gf_J5_177 (pc := 136) C ht dJ5_putVal_136 (fun r_2 er_2 => ?_)
  replace hw := hw r_2 er_2
  refine gk_dup (pc := 139) C.1 dJ5_putVal_139 (va_rf_cat _) ?_
  refine gk_qstore (pc := 140) (lv' := [(10, va_rf r_2), (0, Value.ref x0), (1, Value.int x1), (2, va_rf x2), (3, va_rf x3), (4, Value.int x4), (5, Value.int x5), (6, va_rf x6), (7, Value.ref a_1), (12, Value.int x12)]) C.1 dJ5_putVal_140 (by rw [hXn]; decide) (by first | rfl | simp [va_rf_S, va_rf_cat, cat_i, cat_a, cat_l, cat_f, fin4_0, fin4_1, fin4_2, fin4_3]) ?_
  refine gk_ifnonnull (pc := 142) (tgt := 175) C.1 dJ5_putVal_142 (by decide) (fun c_3 => ?_) (fun c_3 => ?_)
  · obtain ⟨a_4, c_3⟩ := Option.ne_none_iff_exists'.mp c_3
    replace hw := hw.2 a_4 c_3
    subst c_3
    refine gk_aload (pc := 175) C.1 0 dJ5_putVal_175 rfl ?_
    obtain ⟨ht, hw⟩ := hw
    refine gf_J5_168 (pc := 177) C ht dJ5_putVal_177 ?_
    refine gk_iload_n (pc := 180) C.1 2 dJ5_putVal_180 rfl rfl ?_
    refine gk_icmp_ne (pc := 181) (tgt := 212) C.1 dJ5_putVal_181 (by decide) (fun c_14 => ?_) (fun c_14 => ?_)
    · replace hw := hw.1 c_14
      refine GK.sub (lv' := [(0, .ref x0), (1, .int x1), (2, va_rf x2), (3, va_rf x3), (4, .int x4), (5, .int x5), (6, va_rf x6), (10, va_rf (some a_4)), (12, .int x12)]) [1, 2, 3, 4, 5, 6, 7, 0, 9] rfl ?_
      exact wk_J5_putVal_212 C hC9 S0 hret hXn hini hTb ih _ _ _ _ _ _ _ _ _ _ hw
    · replace hw := hw.2 c_14
      refine gk_aload (pc := 184) C.1 0 dJ5_putVal_184 rfl ?_
      obtain ⟨ht, hw⟩ := hw
      refine gf_J5_170 (pc := 186) C ht dJ5_putVal_186 (fun r_15 er_15 => ?_)
      replace hw := hw r_15 er_15
      refine gk_dup (pc := 189) C.1 dJ5_putVal_189 (va_rf_cat _) ?_
      refine gk_qstore (pc := 190) (lv' := [(11, va_rf r_15), (10, Value.ref a_4), (0, Value.ref x0), (1, Value.int x1), (2, va_rf x2), (3, va_rf x3), (4, Value.int x4), (5, Value.int x5), (6, va_rf x6), (7, Value.ref a_1), (12, Value.int x12)]) C.1 dJ5_putVal_190 (by rw [hXn]; decide) (by first | rfl | simp [va_rf_S, va_rf_cat, cat_i, cat_a, cat_l, cat_f, fin4_0, fin4_1, fin4_2, fin4_3]) ?_
      refine gk_qload_n (pc := 192) C.1 4 dJ5_putVal_192 rfl rfl ?_
      refine gk_acmp_eq (pc := 193) (rx := r_15) (ry := x2) (tgt := 222) C.1 dJ5_putVal_193 (by decide) (fun c_16 => ?_) (fun c_16 => ?_)
      · replace hw := hw.1 c_16
        refine GK.sub (lv' := [(0, .ref x0), (3, va_rf x3), (4, .int x4), (5, .int x5), (10, va_rf (some a_4))]) [2, 5, 6, 7, 1] rfl ?_
        exact wk_J5_putVal_222 C hC9 S0 hret hXn hini hTb  _ _ _ _ _ _ hw
      · replace hw := hw.2 c_16
        refine gk_qload_n (pc := 196) C.1 4 dJ5_putVal_196 rfl rfl ?_
        refine gk_ifnull (pc := 197) (tgt := 212) C.1 dJ5_putVal_197 (by decide) (fun c_17 => ?_) (fun c_17 => ?_)
        · replace hw := hw.1 c_17
          subst c_17
          refine GK.sub (lv' := [(0, .ref x0), (1, .int x1), (2, va_rf none), (3, va_rf x3), (4, .int x4), (5, .int x5), (6, va_rf x6), (10, va_rf (some a_4)), (12, .int x12)]) [2, 3, 4, 5, 6, 7, 8, 1, 10] rfl ?_
          exact wk_J5_putVal_212 C hC9 S0 hret hXn hini hTb ih _ _ _ _ _ _ _ _ _ _ hw
        · obtain ⟨a_18, c_17⟩ := Option.ne_none_iff_exists'.mp c_17
          replace hw := hw.2 a_18 c_17
          subst c_17
          refine gk_aload_n (pc := 200) C.1 4 dJ5_putVal_200 rfl rfl ?_
          refine gk_qload (pc := 201) C.1 0 dJ5_putVal_201 rfl ?_
          refine gc_J5_173 (pc := 203) (As := [va_rf r_15]) (rest := []) C hCl (Nat.le_refl _) hw rfl rfl (Nat.le_of_ble_eq_true rfl) dJ5_putVal_203 (fun v9 h_19 hp => ?_) (fun q_21 h_22 hw ht9 => ?_)
          rotate_left
          · exact gx_out C S0 (by rw [hTb]; decide) ht9 hw
          clear hw
          obtain ⟨r_20, rfl, hw⟩ := hp
          refine GK.at (p2 := 206) rfl ?_
          refine gk_if_eq (pc := 206) (tgt := 212) C.1 dJ5_putVal_206 (by decide) (fun c_23 => ?_) (fun c_23 => ?_)
          · replace hw := hw.1 c_23
            refine GK.sub (lv' := [(0, .ref x0), (1, .int x1), (2, va_rf (some a_18)), (3, va_rf x3), (4, .int x4), (5, .int x5), (6, va_rf x6), (10, va_rf (some a_4)), (12, .int x12)]) [2, 3, 4, 5, 6, 7, 8, 1, 10] rfl ?_
            exact wk_J5_putVal_212 C hC9 S0 hret hXn hini hTb ih _ _ _ _ _ _ _ _ _ _ hw
          · replace hw := hw.2 c_23
            refine gk_goto (pc := 209) (tgt := 222) C.1 dJ5_putVal_209 (by decide) ?_
            refine GK.sub (lv' := [(0, .ref x0), (3, va_rf x3), (4, .int x4), (5, .int x5), (10, va_rf (some a_4))]) [2, 5, 6, 7, 1] rfl ?_
            exact wk_J5_putVal_222 C hC9 S0 hret hXn hini hTb  _ _ _ _ _ _ hw
  · replace hw := hw.1 c_3
    subst c_3
    refine gk_aload (pc := 145) C.1 8 dJ5_putVal_145 rfl ?_
    refine gk_aload_n (pc := 147) C.1 1 dJ5_putVal_147 rfl rfl ?_
    refine gk_iload_n (pc := 148) C.1 2 dJ5_putVal_148 rfl rfl ?_
    refine gk_qload_n (pc := 149) C.1 3 dJ5_putVal_149 rfl rfl ?_
    refine gk_qload_n (pc := 150) C.1 4 dJ5_putVal_150 rfl rfl ?_
    refine gk_null (pc := 151) C.1 dJ5_putVal_151 ?_
    refine gc_J5_186 (pc := 152) (As := [.int x1, va_rf x2, va_rf x3, va_rf none]) (rest := [.ref a_1]) C hCl (Nat.le_refl _) hw rfl rfl (Nat.le_of_ble_eq_true rfl) dJ5_putVal_152 (fun v9 h_5 hp => ?_) (fun q_7 h_8 hw ht9 => ?_)
    rotate_left
    · exact gx_out C S0 (by rw [hTb]; decide) ht9 hw
    clear hw
    obtain ⟨r_6, rfl, hw⟩ := hp
    refine GK.at (p2 := 155) rfl ?_
    obtain ⟨ht, hw⟩ := hw
    refine gfp_J5_177 (pc := 155) (r := r_6) C ht dJ5_putVal_155 (fun h_9 eh_9 => ?_)
    replace hw := hw h_9 eh_9
    refine gk_iload (pc := 158) C.1 9 dJ5_putVal_158 rfl ?_
    refine gk_bipush (pc := 160) (v := 7) C.1 dJ5_putVal_160 (by decide) ?_
    refine gk_icmp_lt (pc := 162) (tgt := 222) C.1 dJ5_putVal_162 (by decide) (fun c_10 => ?_) (fun c_10 => ?_)
    · replace hw := hw.1 c_10
      refine GK.sub (lv' := [(0, .ref x0), (3, va_rf x3), (4, .int x4), (5, .int x5), (10, va_rf none)]) [1, 4, 5, 6, 0] rfl ?_
      exact wk_J5_putVal_222 C hC9 S0 hret hXn hini hTb  _ _ _ _ _ _ hw
    · replace hw := hw.2 c_10
      refine gk_aload_n (pc := 165) C.1 1 dJ5_putVal_165 rfl rfl ?_
      refine gk_qload (pc := 166) C.1 7 dJ5_putVal_166 rfl ?_
      refine gk_iload_n (pc := 168) C.1 2 dJ5_putVal_168 rfl rfl ?_
      refine gc_J5_194 (pc := 169) (As := [va_rf x6, .int x1]) (rest := []) C hCl (Nat.le_refl _) hw rfl rfl (Nat.le_of_ble_eq_true rfl) dJ5_putVal_169 (fun v9 h_11 hp => ?_) (fun q_12 h_13 hw ht9 => ?_)
      rotate_left
      · exact gx_out C S0 (by rw [hTb]; decide) ht9 hw
      clear hw
      obtain ⟨rfl, hw⟩ := hp
      refine GK.at (p2 := 172) rfl ?_
      refine gk_goto (pc := 172) (tgt := 222) C.1 dJ5_putVal_172 (by decide) ?_
      refine GK.sub (lv' := [(0, .ref x0), (3, va_rf x3), (4, .int x4), (5, .int x5), (10, va_rf none)]) [1, 4, 5, 6, 0] rfl ?_
      exact wk_J5_putVal_222 C hC9 S0 hret hXn hini hTb  _ _ _ _ _ _ hw
def wb_J5_putVal_104 (cl : CT) (lm : Nat × Nat) (Q : QT) (E : ET) (x0 : Nat) (x1 : Int32) (x2 : Option Nat) (x3 : Option Nat) (x4 : Int32) (x5 : Int32) (x6 : Option Nat) (x7 : Option Nat) (h : HS) : Prop := (False ∧ True) ∨ ((∀ a_1 : Nat, x7 = some a_1 → (hT h a_1 = 21 ∨ hT h a_1 = 22)) ∧ (∃ fu : Nat, wb_J5_putVal_134 cl lm Q E fu x0 x1 x2 x3 x4 x5 x6 x7 0 h))
theorem wk_J5_putVal_104 {X : Ev} {G : GG} {cl : CT} {lm : Nat × Nat} {Q : QT} {E : ET} {h0 : HS} {d2 : Nat} (C : HC X G RJ5 cJ5_putVal (d2 + 1)) (hCl : CallsOK (ev_l X) G d2 cl ∧ hLm G lm ∧ 8 ≤ d2 ∧ LamsOK (ev_l X) G d2 cl) (S0 : HS0 X h0) (hret : (ev_h X).sig.returnType = (Option.some (Jvm.ClassFile.FieldType.object "java/lang/Object"))) (hXn : ev_n X = 13) (hini : True) (hTb : (ev_c X).exceptionTable.toList = []) : ∀ (x0 : Nat) (x1 : Int32) (x2 : Option Nat) (x3 : Option Nat) (x4 : Int32) (x5 : Int32) (x6 : Option Nat) (x7 : Option Nat) (h : HS), wb_J5_putVal_104 cl lm Q E x0 x1 x2 x3 x4 x5 x6 x7 h → GH X G h (hQ X G h0 Q E) 104 [(0, .ref x0), (1, .int x1), (2, va_rf x2), (3, va_rf x3), (4, .int x4), (5, .int x5), (6, va_rf x6), (7, va_rf x7)] [] := by
  have hlm := hCl.2.1
  have hd8 := hCl.2.2.1
  have hd2 : 1 ≤ d2 := Nat.le_trans (by decide) hd8
  have hLa := hCl.2.2.2
  have hd1 : 1 ≤ d2 + 1 := Nat.le_add_left _ _
  have hC9 := hCl
  replace hCl := hCl.1
  intro x0 x1 x2 x3 x4 x5 x6 x7 h hw
  unfold wb_J5_putVal_104 at hw
  refine gk_qload (pc := 104) C.1 7 dJ5_putVal_104 rfl ?_
  rcases hw with ⟨hs, hw⟩ | ⟨hs, hw⟩
  · exact hs.elim
  · refine gi_J5_180_n (pc := 106) (r := x7) C hs dJ5_putVal_106 ?_
    refine gk_if_eq (pc := 109) (tgt := 131) C.1 dJ5_putVal_109 (by decide) (fun c9 => ?_) (fun c9 => ?_)
    rotate_left
    · exact absurd rfl c9
    refine gk_iconst (pc := 131) (v := 0) C.1 dJ5_putVal_131 (by decide) ?_
    refine gk_istore (pc := 132) (lv' := [(12, Value.int 0), (0, Value.ref x0), (1, Value.int x1), (2, va_rf x2), (3, va_rf x3), (4, Value.int x4), (5, Value.int x5), (6, va_rf x6), (7, va_rf x7)]) C.1 dJ5_putVal_132 (by rw [hXn]; decide) (by first | rfl | simp [va_rf_S, va_rf_cat, cat_i, cat_a, cat_l, cat_f, fin4_0, fin4_1, fin4_2, fin4_3]) ?_
    refine GK.sub (lv' := [(0, .ref x0), (1, .int x1), (2, va_rf x2), (3, va_rf x3), (4, .int x4), (5, .int x5), (6, va_rf x6), (7, va_rf x7), (12, .int 0)]) [1, 2, 3, 4, 5, 6, 7, 8, 0] rfl ?_
    obtain ⟨n9, hw⟩ := hw
    exact wk_J5_putVal_134 C hC9 S0 hret hXn hini hTb  n9 _ _ _ _ _ _ _ _ _ _ hw
def wb_J5_putVal_29 (cl : CT) (lm : Nat × Nat) (Q : QT) (E : ET) (x0 : Nat) (x1 : Int32) (x2 : Option Nat) (x3 : Option Nat) (x4 : Int32) (x5 : Int32) (x6 : Option Nat) (x8 : Int32) (h : HS) : Prop := ∀ x_1 : Int32, x_1 = (x8 - 1) &&& x1 → (∃ a_2 : Nat, x6 = some a_2 ∧ (hT h a_2 = 116 ∧ (vp_in x_1 (hN h a_2) ∧ (∀ r_3 : Option Nat, r_3 = hB h a_2 x_1.toNatClampNeg → ((r_3 = none → (dp_HashMap_newNode cl x0 [.int x1, va_rf x2, va_rf x3, va_rf none] h (gR (fun r_7 h_6 => hT h_6 a_2 = 116 ∧ (vp_in x_1 (hN h_6 a_2) ∧ (as_J9 h_6 r_7 ∧ (∀ h_10 : HS, h_10 = sB h_6 a_2 x_1.toNatClampNeg r_7 → (wb_J5_putVal_259 cl lm Q E x0 x5 h_10)))))) E)) ∧ (∀ a_5 : Nat, r_3 = some a_5 → ((hT h a_5 = 21 ∨ hT h a_5 = 22) ∧ (((¬ (hI h 71 a_5) = x1 → (wb_J5_putVal_104 cl lm Q E x0 x1 x2 x3 x4 x5 (some a_2) (some a_5) h)) ∧ ((hI h 71 a_5) = x1 → ((hT h a_5 = 21 ∨ hT h a_5 = 22) ∧ (∀ r_12 : Option Nat, r_12 = hR h 72 a_5 → (((r_12 = x2 → (wb_J5_putVal_97 cl lm Q E x0 x3 x4 x5 (some a_5) h)) ∧ (¬ r_12 = x2 → ((x2 = none → (wb_J5_putVal_104 cl lm Q E x0 x1 none x3 x4 x5 (some a_2) (some a_5) h)) ∧ (∀ a_15 : Nat, x2 = some a_15 → (dp_Object_equals cl a_15 [va_rf r_12] h (gI (fun r_17 h_16 => ((r_17 = 0 → (wb_J5_putVal_104 cl lm Q E x0 x1 (some a_15) x3 x4 x5 (some a_2) (some a_5) h_16)) ∧ (¬ r_17 = 0 → (wb_J5_putVal_97 cl lm Q E x0 x3 x4 x5 (some a_5) h_16))))) E))))))))))))))))))
theorem wk_J5_putVal_29 {X : Ev} {G : GG} {cl : CT} {lm : Nat × Nat} {Q : QT} {E : ET} {h0 : HS} {d2 : Nat} (C : HC X G RJ5 cJ5_putVal (d2 + 1)) (hCl : CallsOK (ev_l X) G d2 cl ∧ hLm G lm ∧ 8 ≤ d2 ∧ LamsOK (ev_l X) G d2 cl) (S0 : HS0 X h0) (hret : (ev_h X).sig.returnType = (Option.some (Jvm.ClassFile.FieldType.object "java/lang/Object"))) (hXn : ev_n X = 13) (hini : True) (hTb : (ev_c X).exceptionTable.toList = []) : ∀ (x0 : Nat) (x1 : Int32) (x2 : Option Nat) (x3 : Option Nat) (x4 : Int32) (x5 : Int32) (x6 : Option Nat) (x8 : Int32) (h : HS), wb_J5_putVal_29 cl lm Q E x0 x1 x2 x3 x4 x5 x6 x8 h → GH X G h (hQ X G h0 Q E) 29 [(0, .ref x0), (1, .int x1), (2, va_rf x2), (3, va_rf x3), (4, .int x4), (5, .int x5), (6, va_rf x6), (8, .int x8)] [] := by
  have hlm := hCl.2.1
  have hd8 := hCl.2.2.1
  have hd2 : 1 ≤ d2 := Nat.le_trans (by decide) hd8
  have hLa := hCl.2.2.2
  have hd1 : 1 ≤ d2 + 1 := Nat.le_add_left _ _
  have hC9 := hCl
  replace hCl := hCl.1
  intro x0 x1 x2 x3 x4 x5 x6 x8 h hw
  unfold wb_J5_putVal_29 at hw
  refine gk_qload (pc := 29) C.1 6 dJ5_putVal_29 rfl ?_
  refine gk_iload (pc := 31) C.1 7 dJ5_putVal_31 rfl ?_
  refine gk_iconst (pc := 33) (v := 1) C.1 dJ5_putVal_33 (by decide) ?_
  refine gk_isub (pc := 34) C.1 dJ5_putVal_34 ?_
  refine gk_iload_n (pc := 35) C.1 1 dJ5_putVal_35 rfl rfl ?_
  refine gk_iand (pc := 36) C.1 dJ5_putVal_36 ?_
  refine gk_dup (pc := 37) C.1 dJ5_putVal_37 rfl ?_
  obtain ⟨x_1, ex_1⟩ : ∃ z : Int32, z = (x8 - 1) &&& x1 := ⟨_, rfl⟩
  rw [← ex_1]
  replace hw := hw x_1 ex_1
  refine gk_istore (pc := 38) (lv' := [(9, Value.int x_1), (0, Value.ref x0), (1, Value.int x1), (2, va_rf x2), (3, va_rf x3), (4, Value.int x4), (5, Value.int x5), (6, va_rf x6), (8, Value.int x8)]) C.1 dJ5_putVal_38 (by rw [hXn]; decide) (by first | rfl | simp [va_rf_S, va_rf_cat, cat_i, cat_a, cat_l, cat_f, fin4_0, fin4_1, fin4_2, fin4_3]) ?_
  obtain ⟨a_2, rfl, hw⟩ := hw
  obtain ⟨ht, hi, hw⟩ := hw
  refine gh_aald (pc := 40) (t0 := 8) (E := "java/util/HashMap$Node") C ht (by decide) (by decide) rfl hi dJ5_putVal_40 ?_
  obtain ⟨r_3, er_3⟩ : ∃ z : Option Nat, z = hB h a_2 x_1.toNatClampNeg := ⟨_, rfl⟩
  rw [← er_3]
  replace hw := hw r_3 er_3
  refine gk_dup (pc := 41) C.1 dJ5_putVal_41 (va_rf_cat _) ?_
  refine gk_qstore (pc := 42) (lv' := [(7, va_rf r_3), (9, Value.int x_1), (0, Value.ref x0), (1, Value.int x1), (2, va_rf x2), (3, va_rf x3), (4, Value.int x4), (5, Value.int x5), (6, Value.ref a_2), (8, Value.int x8)]) C.1 dJ5_putVal_42 (by rw [hXn]; decide) (by first | rfl | simp [va_rf_S, va_rf_cat, cat_i, cat_a, cat_l, cat_f, fin4_0, fin4_1, fin4_2, fin4_3]) ?_
  refine gk_ifnonnull (pc := 44) (tgt := 63) C.1 dJ5_putVal_44 (by decide) (fun c_4 => ?_) (fun c_4 => ?_)
  · obtain ⟨a_5, c_4⟩ := Option.ne_none_iff_exists'.mp c_4
    replace hw := hw.2 a_5 c_4
    subst c_4
    refine gk_aload (pc := 63) C.1 0 dJ5_putVal_63 rfl ?_
    obtain ⟨ht, hw⟩ := hw
    refine gf_J5_168 (pc := 65) C ht dJ5_putVal_65 ?_
    refine gk_iload_n (pc := 68) C.1 3 dJ5_putVal_68 rfl rfl ?_
    refine gk_icmp_ne (pc := 69) (tgt := 104) C.1 dJ5_putVal_69 (by decide) (fun c_11 => ?_) (fun c_11 => ?_)
    · replace hw := hw.1 c_11
      refine GK.sub (lv' := [(0, .ref x0), (1, .int x1), (2, va_rf x2), (3, va_rf x3), (4, .int x4), (5, .int x5), (6, va_rf (some a_2)), (7, va_rf (some a_5))]) [2, 3, 4, 5, 6, 7, 8, 0] rfl ?_
      exact wk_J5_putVal_104 C hC9 S0 hret hXn hini hTb  _ _ _ _ _ _ _ _ _ hw
    · replace hw := hw.2 c_11
      refine gk_aload (pc := 72) C.1 0 dJ5_putVal_72 rfl ?_
      obtain ⟨ht, hw⟩ := hw
      refine gf_J5_170 (pc := 74) C ht dJ5_putVal_74 (fun r_12 er_12 => ?_)
      replace hw := hw r_12 er_12
      refine gk_dup (pc := 77) C.1 dJ5_putVal_77 (va_rf_cat _) ?_
      refine gk_qstore (pc := 78) (lv' := [(11, va_rf r_12), (7, Value.ref a_5), (9, Value.int x_1), (0, Value.ref x0), (1, Value.int x1), (2, va_rf x2), (3, va_rf x3), (4, Value.int x4), (5, Value.int x5), (6, Value.ref a_2), (8, Value.int x8)]) C.1 dJ5_putVal_78 (by rw [hXn]; decide) (by first | rfl | simp [va_rf_S, va_rf_cat, cat_i, cat_a, cat_l, cat_f, fin4_0, fin4_1, fin4_2, fin4_3]) ?_
      refine gk_qload_n (pc := 80) C.1 5 dJ5_putVal_80 rfl rfl ?_
      refine gk_acmp_eq (pc := 81) (rx := r_12) (ry := x2) (tgt := 97) C.1 dJ5_putVal_81 (by decide) (fun c_13 => ?_) (fun c_13 => ?_)
      · replace hw := hw.1 c_13
        refine GK.sub (lv' := [(0, .ref x0), (3, va_rf x3), (4, .int x4), (5, .int x5), (7, va_rf (some a_5))]) [3, 6, 7, 8, 1] rfl ?_
        exact wk_J5_putVal_97 C hC9 S0 hret hXn hini hTb  _ _ _ _ _ _ hw
      · replace hw := hw.2 c_13
        refine gk_qload_n (pc := 84) C.1 5 dJ5_putVal_84 rfl rfl ?_
        refine gk_ifnull (pc := 85) (tgt := 104) C.1 dJ5_putVal_85 (by decide) (fun c_14 => ?_) (fun c_14 => ?_)
        · replace hw := hw.1 c_14
          subst c_14
          refine GK.sub (lv' := [(0, .ref x0), (1, .int x1), (2, va_rf none), (3, va_rf x3), (4, .int x4), (5, .int x5), (6, va_rf (some a_2)), (7, va_rf (some a_5))]) [3, 4, 5, 6, 7, 8, 9, 1] rfl ?_
          exact wk_J5_putVal_104 C hC9 S0 hret hXn hini hTb  _ _ _ _ _ _ _ _ _ hw
        · obtain ⟨a_15, c_14⟩ := Option.ne_none_iff_exists'.mp c_14
          replace hw := hw.2 a_15 c_14
          subst c_14
          refine gk_aload_n (pc := 88) C.1 5 dJ5_putVal_88 rfl rfl ?_
          refine gk_qload (pc := 89) C.1 0 dJ5_putVal_89 rfl ?_
          refine gc_J5_173 (pc := 91) (As := [va_rf r_12]) (rest := []) C hCl (Nat.le_refl _) hw rfl rfl (Nat.le_of_ble_eq_true rfl) dJ5_putVal_91 (fun v9 h_16 hp => ?_) (fun q_18 h_19 hw ht9 => ?_)
          rotate_left
          · exact gx_out C S0 (by rw [hTb]; decide) ht9 hw
          clear hw
          obtain ⟨r_17, rfl, hw⟩ := hp
          refine GK.at (p2 := 94) rfl ?_
          refine gk_if_eq (pc := 94) (tgt := 104) C.1 dJ5_putVal_94 (by decide) (fun c_20 => ?_) (fun c_20 => ?_)
          · replace hw := hw.1 c_20
            refine GK.sub (lv' := [(0, .ref x0), (1, .int x1), (2, va_rf (some a_15)), (3, va_rf x3), (4, .int x4), (5, .int x5), (6, va_rf (some a_2)), (7, va_rf (some a_5))]) [3, 4, 5, 6, 7, 8, 9, 1] rfl ?_
            exact wk_J5_putVal_104 C hC9 S0 hret hXn hini hTb  _ _ _ _ _ _ _ _ _ hw
          · replace hw := hw.2 c_20
            refine GK.sub (lv' := [(0, .ref x0), (3, va_rf x3), (4, .int x4), (5, .int x5), (7, va_rf (some a_5))]) [3, 6, 7, 8, 1] rfl ?_
            exact wk_J5_putVal_97 C hC9 S0 hret hXn hini hTb  _ _ _ _ _ _ hw
  · replace hw := hw.1 c_4
    subst c_4
    refine gk_aload (pc := 47) C.1 8 dJ5_putVal_47 rfl ?_
    refine gk_iload (pc := 49) C.1 1 dJ5_putVal_49 rfl ?_
    refine gk_aload_n (pc := 51) C.1 2 dJ5_putVal_51 rfl rfl ?_
    refine gk_iload_n (pc := 52) C.1 3 dJ5_putVal_52 rfl rfl ?_
    refine gk_qload_n (pc := 53) C.1 4 dJ5_putVal_53 rfl rfl ?_
    refine gk_qload_n (pc := 54) C.1 5 dJ5_putVal_54 rfl rfl ?_
    refine gk_null (pc := 55) C.1 dJ5_putVal_55 ?_
    refine gc_J5_186 (pc := 56) (As := [.int x1, va_rf x2, va_rf x3, va_rf none]) (rest := [.int x_1, .ref a_2]) C hCl (Nat.le_refl _) hw rfl rfl (Nat.le_of_ble_eq_true rfl) dJ5_putVal_56 (fun v9 h_6 hp => ?_) (fun q_8 h_9 hw ht9 => ?_)
    rotate_left
    · exact gx_out C S0 (by rw [hTb]; decide) ht9 hw
    clear hw
    obtain ⟨r_7, rfl, hw⟩ := hp
    refine GK.at (p2 := 59) rfl ?_
    obtain ⟨ht, hi, hs, hw⟩ := hw
    refine gh_aast (pc := 59) (r := r_7) (t0 := 8) (E := "java/util/HashMap$Node") C ht (by decide) (by decide) rfl (as_J9_ok hs) hi dJ5_putVal_59 ?_
    obtain ⟨h_10, eh_10⟩ : ∃ z : HS, z = sB h_6 a_2 x_1.toNatClampNeg r_7 := ⟨_, rfl⟩
    rw [← eh_10]
    replace hw := hw h_10 eh_10
    refine gk_goto (pc := 60) (tgt := 259) C.1 dJ5_putVal_60 (by decide) ?_
    refine GK.sub (lv' := [(0, .ref x0), (5, .int x5)]) [2, 7] rfl ?_
    exact wk_J5_putVal_259 C hC9 S0 hret hXn hini hTb  _ _ _ hw
def wb_J5_putVal_19 (cl : CT) (lm : Nat × Nat) (Q : QT) (E : ET) (x0 : Nat) (x1 : Int32) (x2 : Option Nat) (x3 : Option Nat) (x4 : Int32) (x5 : Int32) (h : HS) : Prop := dp_HashMap_resize cl x0 [] h (gR (fun r_2 h_1 => ∃ a_5 : Nat, r_2 = some a_5 ∧ (hT h_1 a_5 = 116 ∧ (∀ x_6 : Int32, x_6 = nI (hN h_1 a_5) → (wb_J5_putVal_29 cl lm Q E x0 x1 x2 x3 x4 x5 (some a_5) x_6 h_1))))) E
theorem wk_J5_putVal_19 {X : Ev} {G : GG} {cl : CT} {lm : Nat × Nat} {Q : QT} {E : ET} {h0 : HS} {d2 : Nat} (C : HC X G RJ5 cJ5_putVal (d2 + 1)) (hCl : CallsOK (ev_l X) G d2 cl ∧ hLm G lm ∧ 8 ≤ d2 ∧ LamsOK (ev_l X) G d2 cl) (S0 : HS0 X h0) (hret : (ev_h X).sig.returnType = (Option.some (Jvm.ClassFile.FieldType.object "java/lang/Object"))) (hXn : ev_n X = 13) (hini : True) (hTb : (ev_c X).exceptionTable.toList = []) : ∀ (x0 : Nat) (x1 : Int32) (x2 : Option Nat) (x3 : Option Nat) (x4 : Int32) (x5 : Int32) (h : HS), wb_J5_putVal_19 cl lm Q E x0 x1 x2 x3 x4 x5 h → GH X G h (hQ X G h0 Q E) 19 [(0, .ref x0), (1, .int x1), (2, va_rf x2), (3, va_rf x3), (4, .int x4), (5, .int x5)] [] := by
  have hlm := hCl.2.1
  have hd8 := hCl.2.2.1
  have hd2 : 1 ≤ d2 := Nat.le_trans (by decide) hd8
  have hLa := hCl.2.2.2
  have hd1 : 1 ≤ d2 + 1 := Nat.le_add_left _ _
  have hC9 := hCl
  replace hCl := hCl.1
  intro x0 x1 x2 x3 x4 x5 h hw
  unfold wb_J5_putVal_19 at hw
  refine gk_aload_n (pc := 19) C.1 0 dJ5_putVal_19 rfl rfl ?_
  refine gc_J5_117 (pc := 20) (As := []) (rest := []) C hCl (Nat.le_refl _) hw rfl rfl (Nat.le_of_ble_eq_true rfl) dJ5_putVal_20 (fun v9 h_1 hp => ?_) (fun q_3 h_4 hw ht9 => ?_)
  rotate_left
  · exact gx_out C S0 (by rw [hTb]; decide) ht9 hw
  clear hw
  obtain ⟨r_2, rfl, hw⟩ := hp
  refine GK.at (p2 := 23) rfl ?_
  refine gk_dup (pc := 23) C.1 dJ5_putVal_23 (va_rf_cat _) ?_
  refine gk_qstore (pc := 24) (lv' := [(6, va_rf r_2), (0, Value.ref x0), (1, Value.int x1), (2, va_rf x2), (3, va_rf x3), (4, Value.int x4), (5, Value.int x5)]) C.1 dJ5_putVal_24 (by rw [hXn]; decide) (by first | rfl | simp [va_rf_S, va_rf_cat, cat_i, cat_a, cat_l, cat_f, fin4_0, fin4_1, fin4_2, fin4_3]) ?_
  obtain ⟨a_5, rfl, hw⟩ := hw
  obtain ⟨ht, hw⟩ := hw
  refine gh_len (pc := 26) (t0 := 8) (ty := tyA 116) C ht (by decide) rfl dJ5_putVal_26 ?_
  obtain ⟨x_6, ex_6⟩ : ∃ z : Int32, z = nI (hN h_1 a_5) := ⟨_, rfl⟩
  rw [← ex_6]
  replace hw := hw x_6 ex_6
  refine gk_istore (pc := 27) (lv' := [(8, Value.int x_6), (6, Value.ref a_5), (0, Value.ref x0), (1, Value.int x1), (2, va_rf x2), (3, va_rf x3), (4, Value.int x4), (5, Value.int x5)]) C.1 dJ5_putVal_27 (by rw [hXn]; decide) (by first | rfl | simp [va_rf_S, va_rf_cat, cat_i, cat_a, cat_l, cat_f, fin4_0, fin4_1, fin4_2, fin4_3]) ?_
  refine GK.sub (lv' := [(0, .ref x0), (1, .int x1), (2, va_rf x2), (3, va_rf x3), (4, .int x4), (5, .int x5), (6, va_rf (some a_5)), (8, .int x_6)]) [2, 3, 4, 5, 6, 7, 1, 0] rfl ?_
  exact wk_J5_putVal_29 C hC9 S0 hret hXn hini hTb  _ _ _ _ _ _ _ _ _ hw
def wb_J5_putVal (cl : CT) (lm : Nat × Nat) (Q : QT) (E : ET) (x0 : Nat) (x1 : Int32) (x2 : Option Nat) (x3 : Option Nat) (x4 : Int32) (x5 : Int32) (h : HS) : Prop := (hT h x0 = 19 ∨ hT h x0 = 20) ∧ (∀ r_1 : Option Nat, r_1 = hR h 61 x0 → ((r_1 = none → (wb_J5_putVal_19 cl lm Q E x0 x1 x2 x3 x4 x5 h)) ∧ (∀ a_3 : Nat, r_1 = some a_3 → (hT h a_3 = 116 ∧ (∀ x_4 : Int32, x_4 = nI (hN h a_3) → (((¬ x_4 = 0 → (wb_J5_putVal_29 cl lm Q E x0 x1 x2 x3 x4 x5 (some a_3) x_4 h)) ∧ (x_4 = 0 → (wb_J5_putVal_19 cl lm Q E x0 x1 x2 x3 x4 x5 h)))))))))
theorem wx_J5_putVal {l : Launch} (hst : l.stackTraces = false) {G : GG} {cl : CT} {lm : Nat × Nat} {Q : QT} {E : ET} {d2 : Nat} (hCl : CallsOK l G d2 cl ∧ hLm G lm ∧ 8 ≤ d2 ∧ LamsOK l G d2 cl) {x0 : Nat} {x1 : Int32} {x2 : Option Nat} {x3 : Option Nat} {x4 : Int32} {x5 : Int32} {h : HS} (hw : wb_J5_putVal cl lm Q E x0 x1 x2 x3 x4 x5 h) : HMet l G yJ5_putVal (ws_ yJ5_putVal cJ5_putVal 13 ((Option.some (Jvm.ClassFile.FieldType.object "java/lang/Object")))) (d2 + 1) [.ref x0, .int x1, va_rf x2, va_rf x3, .int x4, .int x5] h Q E := by
  refine gh_met (own := RJ5) rfl (by decide +kernel) hst (by simp only [lg_sl_i, lg_sl_r, lg_sl_a, lg_sl_2, lg_sl_f, lg_sl_0]; decide) (fun X hXl hXn hret hnm hTb h0 eh C S0 => ?_)
  subst hXl
  have hlm := hCl.2.1
  have hd8 := hCl.2.2.1
  have hd2 : 1 ≤ d2 := Nat.le_trans (by decide) hd8
  have hLa := hCl.2.2.2
  have hd1 : 1 ≤ d2 + 1 := Nat.le_add_left _ _
  have hC9 := hCl
  replace hCl := hCl.1
  have hini : True := trivial
  unfold wb_J5_putVal at hw
  refine GK.sub (lv' := [(0, .ref x0), (1, .int x1), (2, va_rf x2), (3, va_rf x3), (4, .int x4), (5, .int x5)]) [0, 1, 2, 3, 4, 5] (by simp only [lv_args_i, lv_args_r, lv_args_a, lv_args_l, lv_args_f, lv_args_0]; rfl) ?_
  refine gk_aload_n (pc := 0) C.1 0 dJ5_putVal_0 rfl rfl ?_
  obtain ⟨ht, hw⟩ := hw
  refine gf_J5_105 (pc := 1) C ht dJ5_putVal_1 (fun r_1 er_1 => ?_)
  replace hw := hw r_1 er_1
  refine gk_dup (pc := 4) C.1 dJ5_putVal_4 (va_rf_cat _) ?_
  refine gk_qstore (pc := 5) (lv' := [(6, va_rf r_1), (0, Value.ref x0), (1, Value.int x1), (2, va_rf x2), (3, va_rf x3), (4, Value.int x4), (5, Value.int x5)]) C.1 dJ5_putVal_5 (by rw [hXn]; decide) (by first | rfl | simp [va_rf_S, va_rf_cat, cat_i, cat_a, cat_l, cat_f, fin4_0, fin4_1, fin4_2, fin4_3]) ?_
  refine gk_ifnull (pc := 7) (tgt := 19) C.1 dJ5_putVal_7 (by decide) (fun c_2 => ?_) (fun c_2 => ?_)
  · replace hw := hw.1 c_2
    subst c_2
    refine GK.sub (lv' := [(0, .ref x0), (1, .int x1), (2, va_rf x2), (3, va_rf x3), (4, .int x4), (5, .int x5)]) [1, 2, 3, 4, 5, 6] rfl ?_
    exact wk_J5_putVal_19 C hC9 S0 hret hXn hini hTb  _ _ _ _ _ _ _ hw
  · obtain ⟨a_3, c_2⟩ := Option.ne_none_iff_exists'.mp c_2
    replace hw := hw.2 a_3 c_2
    subst c_2
    refine gk_aload (pc := 10) C.1 0 dJ5_putVal_10 rfl ?_
    obtain ⟨ht, hw⟩ := hw
    refine gh_len (pc := 12) (t0 := 8) (ty := tyA 116) C ht (by decide) rfl dJ5_putVal_12 ?_
    refine gk_dup (pc := 13) C.1 dJ5_putVal_13 rfl ?_
    obtain ⟨x_4, ex_4⟩ : ∃ z : Int32, z = nI (hN h a_3) := ⟨_, rfl⟩
    rw [← ex_4]
    replace hw := hw x_4 ex_4
    refine gk_istore (pc := 14) (lv' := [(8, Value.int x_4), (6, Value.ref a_3), (0, Value.ref x0), (1, Value.int x1), (2, va_rf x2), (3, va_rf x3), (4, Value.int x4), (5, Value.int x5)]) C.1 dJ5_putVal_14 (by rw [hXn]; decide) (by first | rfl | simp [va_rf_S, va_rf_cat, cat_i, cat_a, cat_l, cat_f, fin4_0, fin4_1, fin4_2, fin4_3]) ?_
    refine gk_if_ne (pc := 16) (tgt := 29) C.1 dJ5_putVal_16 (by decide) (fun c_5 => ?_) (fun c_5 => ?_)
    · replace hw := hw.1 c_5
      refine GK.sub (lv' := [(0, .ref x0), (1, .int x1), (2, va_rf x2), (3, va_rf x3), (4, .int x4), (5, .int x5), (6, va_rf (some a_3)), (8, .int x_4)]) [2, 3, 4, 5, 6, 7, 1, 0] rfl ?_
      exact wk_J5_putVal_29 C hC9 S0 hret hXn hini hTb  _ _ _ _ _ _ _ _ _ hw
    · replace hw := hw.2 c_5
      refine GK.sub (lv' := [(0, .ref x0), (1, .int x1), (2, va_rf x2), (3, va_rf x3), (4, .int x4), (5, .int x5)]) [2, 3, 4, 5, 6, 7] rfl ?_
      exact wk_J5_putVal_19 C hC9 S0 hret hXn hini hTb  _ _ _ _ _ _ _ hw
/-! 11: java/util/HashMap.resize()[Ljava/util/HashMap$Node; -/
def wb_J5_resize_347 (cl : CT) (lm : Nat × Nat) (Q : QT) (E : ET) (J151 : Nat → Option Nat → Int32 → Int32 → Nat → Int32 → HS → Prop) (x0 : Nat) (x1 : Option Nat) (x2 : Int32) (x4 : Int32) (x6 : Nat) (x7 : Int32) (h : HS) : Prop := ∀ x_1 : Int32, x_1 = x7 + 1 → (J151 x0 x1 x2 x4 x6 x_1 h)
theorem wk_J5_resize_347 {X : Ev} {G : GG} {cl : CT} {lm : Nat × Nat} {Q : QT} {E : ET} {h0 : HS} {d2 : Nat} {J151 : Nat → Option Nat → Int32 → Int32 → Nat → Int32 → HS → Prop} (C : HC X G RJ5 cJ5_resize (d2 + 1)) (hCl : CallsOK (ev_l X) G d2 cl ∧ hLm G lm ∧ 8 ≤ d2 ∧ LamsOK (ev_l X) G d2 cl) (S0 : HS0 X h0) (hret : (ev_h X).sig.returnType = (Option.some (Jvm.ClassFile.FieldType.array (Jvm.ClassFile.FieldType.object "java/util/HashMap$Node")))) (hXn : ev_n X = 14) (hini : True) (hTb : (ev_c X).exceptionTable.toList = []) (hJ151 : ∀ (x0 : Nat) (x1 : Option Nat) (x2 : Int32) (x4 : Int32) (x6 : Nat) (x7 : Int32) (h : HS), J151 x0 x1 x2 x4 x6 x7 h → GH X G h (hQ X G h0 Q E) 151 [(0, .ref x0), (1, va_rf x1), (2, .int x2), (4, .int x4), (6, .ref x6), (7, .int x7)] []) : ∀ (x0 : Nat) (x1 : Option Nat) (x2 : Int32) (x4 : Int32) (x6 : Nat) (x7 : Int32) (h : HS), wb_J5_resize_347 cl lm Q E J151 x0 x1 x2 x4 x6 x7 h → GH X G h (hQ X G h0 Q E) 347 [(0, .ref x0), (1, va_rf x1), (2, .int x2), (4, .int x4), (6, .ref x6), (7, .int x7)] [] := by
  have hlm := hCl.2.1
  have hd8 := hCl.2.2.1
  have hd2 : 1 ≤ d2 := Nat.le_trans (by decide) hd8
  have hLa := hCl.2.2.2
  have hd1 : 1 ≤ d2 + 1 := Nat.le_add_left _ _
  have hC9 := hCl
  replace hCl := hCl.1
  intro x0 x1 x2 x4 x6 x7 h hw
  unfold wb_J5_resize_347 at hw
  obtain ⟨x_1, ex_1⟩ : ∃ z : Int32, z = x7 + 1 := ⟨_, rfl⟩
  replace hw := hw x_1 ex_1
  refine gk_iinc (pc := 347) (v := x_1) (lv' := [(7, Value.int x_1), (0, Value.ref x0), (1, va_rf x1), (2, Value.int x2), (4, Value.int x4), (6, Value.ref x6)]) C.1 5 dJ5_resize_347 rfl (by rw [ex_1]; rfl) (by rw [hXn]; decide) (by first | rfl | simp [va_rf_S, va_rf_cat, cat_i, cat_a, cat_l, cat_f, fin4_0, fin4_1, fin4_2, fin4_3]) ?_
  refine gk_goto (pc := 350) (tgt := 151) C.1 dJ5_resize_350 (by decide) ?_
  refine GK.sub (lv' := [(0, .ref x0), (1, va_rf x1), (2, .int x2), (4, .int x4), (6, .ref x6), (7, .int x_1)]) [1, 2, 3, 4, 5, 0] rfl ?_
  exact hJ151 _ _ _ _ _ _ _ hw
def wb_J5_resize_327 (cl : CT) (lm : Nat × Nat) (Q : QT) (E : ET) (J151 : Nat → Option Nat → Int32 → Int32 → Nat → Int32 → HS → Prop) (x0 : Nat) (x1 : Option Nat) (x2 : Int32) (x4 : Int32) (x6 : Nat) (x7 : Int32) (x11 : Option Nat) (x12 : Option Nat) (h : HS) : Prop := (x12 = none → (wb_J5_resize_347 cl lm Q E J151 x0 x1 x2 x4 x6 x7 h)) ∧ (∀ a_2 : Nat, x12 = some a_2 → ((hT h a_2 = 21 ∨ hT h a_2 = 22) ∧ (∀ h_3 : HS, h_3 = sR h 74 a_2 none → (hT h_3 x6 = 116 ∧ (vp_in (x7 + x2) (hN h_3 x6) ∧ (as_J9 h_3 x11 ∧ (∀ h_4 : HS, h_4 = sB h_3 x6 (x7 + x2).toNatClampNeg x11 → (wb_J5_resize_347 cl lm Q E J151 x0 x1 x2 x4 x6 x7 h_4))))))))
theorem wk_J5_resize_327 {X : Ev} {G : GG} {cl : CT} {lm : Nat × Nat} {Q : QT} {E : ET} {h0 : HS} {d2 : Nat} {J151 : Nat → Option Nat → Int32 → Int32 → Nat → Int32 → HS → Prop} (C : HC X G RJ5 cJ5_resize (d2 + 1)) (hCl : CallsOK (ev_l X) G d2 cl ∧ hLm G lm ∧ 8 ≤ d2 ∧ LamsOK (ev_l X) G d2 cl) (S0 : HS0 X h0) (hret : (ev_h X).sig.returnType = (Option.some (Jvm.ClassFile.FieldType.array (Jvm.ClassFile.FieldType.object "java/util/HashMap$Node")))) (hXn : ev_n X = 14) (hini : True) (hTb : (ev_c X).exceptionTable.toList = []) (hJ151 : ∀ (x0 : Nat) (x1 : Option Nat) (x2 : Int32) (x4 : Int32) (x6 : Nat) (x7 : Int32) (h : HS), J151 x0 x1 x2 x4 x6 x7 h → GH X G h (hQ X G h0 Q E) 151 [(0, .ref x0), (1, va_rf x1), (2, .int x2), (4, .int x4), (6, .ref x6), (7, .int x7)] []) : ∀ (x0 : Nat) (x1 : Option Nat) (x2 : Int32) (x4 : Int32) (x6 : Nat) (x7 : Int32) (x11 : Option Nat) (x12 : Option Nat) (h : HS), wb_J5_resize_327 cl lm Q E J151 x0 x1 x2 x4 x6 x7 x11 x12 h → GH X G h (hQ X G h0 Q E) 327 [(0, .ref x0), (1, va_rf x1), (2, .int x2), (4, .int x4), (6, .ref x6), (7, .int x7), (11, va_rf x11), (12, va_rf x12)] [] := by
  have hlm := hCl.2.1
  have hd8 := hCl.2.2.1
  have hd2 : 1 ≤ d2 := Nat.le_trans (by decide) hd8
  have hLa := hCl.2.2.2
  have hd1 : 1 ≤ d2 + 1 := Nat.le_add_left _ _
  have hC9 := hCl
  replace hCl := hCl.1
  intro x0 x1 x2 x4 x6 x7 x11 x12 h hw
  unfold wb_J5_resize_327 at hw
  refine gk_qload (pc := 327) C.1 7 dJ5_resize_327 rfl ?_
  refine gk_ifnull (pc := 329) (tgt := 347) C.1 dJ5_resize_329 (by decide) (fun c_1 => ?_) (fun c_1 => ?_)
  · replace hw := hw.1 c_1
    subst c_1
    refine GK.sub (lv' := [(0, .ref x0), (1, va_rf x1), (2, .int x2), (4, .int x4), (6, .ref x6), (7, .int x7)]) [0, 1, 2, 3, 4, 5] rfl ?_
    exact wk_J5_resize_347 C hC9 S0 hret hXn hini hTb hJ151 _ _ _ _ _ _ _ hw
  · obtain ⟨a_2, c_1⟩ := Option.ne_none_iff_exists'.mp c_1
    replace hw := hw.2 a_2 c_1
    subst c_1
    refine gk_aload (pc := 332) C.1 7 dJ5_resize_332 rfl ?_
    refine gk_null (pc := 334) C.1 dJ5_resize_334 ?_
    obtain ⟨ht, hw⟩ := hw
    refine gfp_J5_177 (pc := 335) (r := none) C ht dJ5_resize_335 (fun h_3 eh_3 => ?_)
    replace hw := hw h_3 eh_3
    refine gk_aload (pc := 338) C.1 4 dJ5_resize_338 rfl ?_
    refine gk_iload (pc := 340) C.1 5 dJ5_resize_340 rfl ?_
    refine gk_iload_n (pc := 342) C.1 2 dJ5_resize_342 rfl rfl ?_
    refine gk_iadd (pc := 343) C.1 dJ5_resize_343 ?_
    refine gk_qload (pc := 344) C.1 6 dJ5_resize_344 rfl ?_
    obtain ⟨ht, hi, hs, hw⟩ := hw
    refine gh_aast (pc := 346) (r := x11) (t0 := 8) (E := "java/util/HashMap$Node") C ht (by decide) (by decide) rfl (as_J9_ok hs) hi dJ5_resize_346 ?_
    obtain ⟨h_4, eh_4⟩ : ∃ z : HS, z = sB h_3 x6 (x7 + x2).toNatClampNeg x11 := ⟨_, rfl⟩
    rw [← eh_4]
    replace hw := hw h_4 eh_4
    refine GK.sub (lv' := [(0, .ref x0), (1, va_rf x1), (2, .int x2), (4, .int x4), (6, .ref x6), (7, .int x7)]) [0, 1, 2, 3, 4, 5] rfl ?_
    exact wk_J5_resize_347 C hC9 S0 hret hXn hini hTb hJ151 _ _ _ _ _ _ _ hw
def wb_J5_resize_301 (cl : CT) (lm : Nat × Nat) (Q : QT) (E : ET) (J151 : Nat → Option Nat → Int32 → Int32 → Nat → Int32 → HS → Prop) (J235 : Nat → Option Nat → Int32 → Int32 → Nat → Int32 → Option Nat → Option Nat → Option Nat → Option Nat → Option Nat → HS → Prop) (x0 : Nat) (x1 : Option Nat) (x2 : Int32) (x4 : Int32) (x6 : Nat) (x7 : Int32) (x9 : Option Nat) (x10 : Option Nat) (x11 : Option Nat) (x12 : Option Nat) (x13 : Option Nat) (h : HS) : Prop := (x13 = none → ((x10 = none → (wb_J5_resize_327 cl lm Q E J151 x0 x1 x2 x4 x6 x7 x11 x12 h)) ∧ (∀ a_4 : Nat, x10 = some a_4 → ((hT h a_4 = 21 ∨ hT h a_4 = 22) ∧ (∀ h_5 : HS, h_5 = sR h 74 a_4 none → (hT h_5 x6 = 116 ∧ (vp_in x7 (hN h_5 x6) ∧ (as_J9 h_5 x9 ∧ (∀ h_6 : HS, h_6 = sB h_5 x6 x7.toNatClampNeg x9 → (wb_J5_resize_327 cl lm Q E J151 x0 x1 x2 x4 x6 x7 x11 x12 h_6)))))))))) ∧ (∀ a_2 : Nat, x13 = some a_2 → (J235 x0 x1 x2 x4 x6 x7 (some a_2) x9 x10 x11 x12 h))
theorem wk_J5_resize_301 {X : Ev} {G : GG} {cl : CT} {lm : Nat × Nat} {Q : QT} {E : ET} {h0 : HS} {d2 : Nat} {J151 : Nat → Option Nat → Int32 → Int32 → Nat → Int32 → HS → Prop} {J235 : Nat → Option Nat → Int32 → Int32 → Nat → Int32 → Option Nat → Option Nat → Option Nat → Option Nat → Option Nat → HS → Prop} (C : HC X G RJ5 cJ5_resize (d2 + 1)) (hCl : CallsOK (ev_l X) G d2 cl ∧ hLm G lm ∧ 8 ≤ d2 ∧ LamsOK (ev_l X) G d2 cl) (S0 : HS0 X h0) (hret : (ev_h X).sig.returnType = (Option.some (Jvm.ClassFile.FieldType.array (Jvm.ClassFile.FieldType.object "java/util/HashMap$Node")))) (hXn : ev_n X = 14) (hini : True) (hTb : (ev_c X).exceptionTable.toList = []) (hJ151 : ∀ (x0 : Nat) (x1 : Option Nat) (x2 : Int32) (x4 : Int32) (x6 : Nat) (x7 : Int32) (h : HS), J151 x0 x1 x2 x4 x6 x7 h → GH X G h (hQ X G h0 Q E) 151 [(0, .ref x0), (1, va_rf x1), (2, .int x2), (4, .int x4), (6, .ref x6), (7, .int x7)] []) (hJ235 : ∀ (x0 : Nat) (x1 : Option Nat) (x2 : Int32) (x4 : Int32) (x6 : Nat) (x7 : Int32) (x8 : Option Nat) (x9 : Option Nat) (x10 : Option Nat) (x11 : Option Nat) (x12 : Option Nat) (h : HS), J235 x0 x1 x2 x4 x6 x7 x8 x9 x10 x11 x12 h → GH X G h (hQ X G h0 Q E) 235 [(0, .ref x0), (1, va_rf x1), (2, .int x2), (4, .int x4), (6, .ref x6), (7, .int x7), (8, va_rf x8), (9, va_rf x9), (10, va_rf x10), (11, va_rf x11), (12, va_rf x12)] []) : ∀ (x0 : Nat) (x1 : Option Nat) (x2 : Int32) (x4 : Int32) (x6 : Nat) (x7 : Int32) (x9 : Option Nat) (x10 : Option Nat) (x11 : Option Nat) (x12 : Option Nat) (x13 : Option Nat) (h : HS), wb_J5_resize_301 cl lm Q E J151 J235 x0 x1 x2 x4 x6 x7 x9 x10 x11 x12 x13 h → GH X G h (hQ X G h0 Q E) 301 [(0, .ref x0), (1, va_rf x1), (2, .int x2), (4, .int x4), (6, .ref x6), (7, .int x7), (9, va_rf x9), (10, va_rf x10), (11, va_rf x11), (12, va_rf x12), (13, va_rf x13)] [] := by
  have hlm := hCl.2.1
  have hd8 := hCl.2.2.1
  have hd2 : 1 ≤ d2 := Nat.le_trans (by decide) hd8
  have hLa := hCl.2.2.2
  have hd1 : 1 ≤ d2 + 1 := Nat.le_add_left _ _
  have hC9 := hCl
  replace hCl := hCl.1
  intro x0 x1 x2 x4 x6 x7 x9 x10 x11 x12 x13 h hw
  unfold wb_J5_resize_301 at hw
  refine gk_qload (pc := 301) C.1 10 dJ5_resize_301 rfl ?_
  refine gk_dup (pc := 303) C.1 dJ5_resize_303 (va_rf_cat _) ?_
  refine gk_qstore (pc := 304) (lv' := [(8, va_rf x13), (0, Value.ref x0), (1, va_rf x1), (2, Value.int x2), (4, Value.int x4), (6, Value.ref x6), (7, Value.int x7), (9, va_rf x9), (10, va_rf x10), (11, va_rf x11), (12, va_rf x12), (13, va_rf x13)]) C.1 dJ5_resize_304 (by rw [hXn]; decide) (by first | rfl | simp [va_rf_S, va_rf_cat, cat_i, cat_a, cat_l, cat_f, fin4_0, fin4_1, fin4_2, fin4_3]) ?_
  refine gk_ifnonnull (pc := 306) (tgt := 235) C.1 dJ5_resize_306 (by decide) (fun c_1 => ?_) (fun c_1 => ?_)
  · obtain ⟨a_2, c_1⟩ := Option.ne_none_iff_exists'.mp c_1
    replace hw := hw.2 a_2 c_1
    subst c_1
    refine GK.sub (lv' := [(0, .ref x0), (1, va_rf x1), (2, .int x2), (4, .int x4), (6, .ref x6), (7, .int x7), (8, va_rf (some a_2)), (9, va_rf x9), (10, va_rf x10), (11, va_rf x11), (12, va_rf x12)]) [1, 2, 3, 4, 5, 6, 0, 7, 8, 9, 10] rfl ?_
    exact hJ235 _ _ _ _ _ _ _ _ _ _ _ _ hw
  · replace hw := hw.1 c_1
    subst c_1
    refine gk_qload (pc := 309) C.1 8 dJ5_resize_309 rfl ?_
    refine gk_ifnull (pc := 311) (tgt := 327) C.1 dJ5_resize_311 (by decide) (fun c_3 => ?_) (fun c_3 => ?_)
    · replace hw := hw.1 c_3
      subst c_3
      refine GK.sub (lv' := [(0, .ref x0), (1, va_rf x1), (2, .int x2), (4, .int x4), (6, .ref x6), (7, .int x7), (11, va_rf x11), (12, va_rf x12)]) [1, 2, 3, 4, 5, 6, 9, 10] rfl ?_
      exact wk_J5_resize_327 C hC9 S0 hret hXn hini hTb hJ151 _ _ _ _ _ _ _ _ _ hw
    · obtain ⟨a_4, c_3⟩ := Option.ne_none_iff_exists'.mp c_3
      replace hw := hw.2 a_4 c_3
      subst c_3
      refine gk_aload (pc := 314) C.1 8 dJ5_resize_314 rfl ?_
      refine gk_null (pc := 316) C.1 dJ5_resize_316 ?_
      obtain ⟨ht, hw⟩ := hw
      refine gfp_J5_177 (pc := 317) (r := none) C ht dJ5_resize_317 (fun h_5 eh_5 => ?_)
      replace hw := hw h_5 eh_5
      refine gk_aload (pc := 320) C.1 5 dJ5_resize_320 rfl ?_
      refine gk_iload (pc := 322) C.1 6 dJ5_resize_322 rfl ?_
      refine gk_qload (pc := 324) C.1 7 dJ5_resize_324 rfl ?_
      obtain ⟨ht, hi, hs, hw⟩ := hw
      refine gh_aast (pc := 326) (r := x9) (t0 := 8) (E := "java/util/HashMap$Node") C ht (by decide) (by decide) rfl (as_J9_ok hs) hi dJ5_resize_326 ?_
      obtain ⟨h_6, eh_6⟩ : ∃ z : HS, z = sB h_5 x6 x7.toNatClampNeg x9 := ⟨_, rfl⟩
      rw [← eh_6]
      replace hw := hw h_6 eh_6
      refine GK.sub (lv' := [(0, .ref x0), (1, va_rf x1), (2, .int x2), (4, .int x4), (6, .ref x6), (7, .int x7), (11, va_rf x11), (12, va_rf x12)]) [1, 2, 3, 4, 5, 6, 9, 10] rfl ?_
      exact wk_J5_resize_327 C hC9 S0 hret hXn hini hTb hJ151 _ _ _ _ _ _ _ _ _ hw
def wb_J5_resize_271 (cl : CT) (lm : Nat × Nat) (Q : QT) (E : ET) (J151 : Nat → Option Nat → Int32 → Int32 → Nat → Int32 → HS → Prop) (J235 : Nat → Option Nat → Int32 → Int32 → Nat → Int32 → Option Nat → Option Nat → Option Nat → Option Nat → Option Nat → HS → Prop) (x0 : Nat) (x1 : Option Nat) (x2 : Int32) (x4 : Int32) (x6 : Nat) (x7 : Int32) (x8 : Option Nat) (x9 : Option Nat) (x11 : Option Nat) (x12 : Option Nat) (x13 : Option Nat) (h : HS) : Prop := wb_J5_resize_301 cl lm Q E J151 J235 x0 x1 x2 x4 x6 x7 x9 x8 x11 x12 x13 h
theorem wk_J5_resize_271 {X : Ev} {G : GG} {cl : CT} {lm : Nat × Nat} {Q : QT} {E : ET} {h0 : HS} {d2 : Nat} {J151 : Nat → Option Nat → Int32 → Int32 → Nat → Int32 → HS → Prop} {J235 : Nat → Option Nat → Int32 → Int32 → Nat → Int32 → Option Nat → Option Nat → Option Nat → Option Nat → Option Nat → HS → Prop} (C : HC X G RJ5 cJ5_resize (d2 + 1)) (hCl : CallsOK (ev_l X) G d2 cl ∧ hLm G lm ∧ 8 ≤ d2 ∧ LamsOK (ev_l X) G d2 cl) (S0 : HS0 X h0) (hret : (ev_h X).sig.returnType = (Option.some (Jvm.ClassFile.FieldType.array (Jvm.ClassFile.FieldType.object "java/util/HashMap$Node")))) (hXn : ev_n X = 14) (hini : True) (hTb : (ev_c X).exceptionTable.toList = []) (hJ151 : ∀ (x0 : Nat) (x1 : Option Nat) (x2 : Int32) (x4 : Int32) (x6 : Nat) (x7 : Int32) (h : HS), J151 x0 x1 x2 x4 x6 x7 h → GH X G h (hQ X G h0 Q E) 151 [(0, .ref x0), (1, va_rf x1), (2, .int x2), (4, .int x4), (6, .ref x6), (7, .int x7)] []) (hJ235 : ∀ (x0 : Nat) (x1 : Option Nat) (x2 : Int32) (x4 : Int32) (x6 : Nat) (x7 : Int32) (x8 : Option Nat) (x9 : Option Nat) (x10 : Option Nat) (x11 : Option Nat) (x12 : Option Nat) (h : HS), J235 x0 x1 x2 x4 x6 x7 x8 x9 x10 x11 x12 h → GH X G h (hQ X G h0 Q E) 235 [(0, .ref x0), (1, va_rf x1), (2, .int x2), (4, .int x4), (6, .ref x6), (7, .int x7), (8, va_rf x8), (9, va_rf x9), (10, va_rf x10), (11, va_rf x11), (12, va_rf x12)] []) : ∀ (x0 : Nat) (x1 : Option Nat) (x2 : Int32) (x4 : Int32) (x6 : Nat) (x7 : Int32) (x8 : Option Nat) (x9 : Option Nat) (x11 : Option Nat) (x12 : Option Nat) (x13 : Option Nat) (h : HS), wb_J5_resize_271 cl lm Q E J151 J235 x0 x1 x2 x4 x6 x7 x8 x9 x11 x12 x13 h → GH X G h (hQ X G h0 Q E) 271 [(0, .ref x0), (1, va_rf x1), (2, .int x2), (4, .int x4), (6, .ref x6), (7, .int x7), (8, va_rf x8), (9, va_rf x9), (11, va_rf x11), (12, va_rf x12), (13, va_rf x13)] [] := by
  have hlm := hCl.2.1
  have hd8 := hCl.2.2.1
  have hd2 : 1 ≤ d2 := Nat.le_trans (by decide) hd8
  have hLa := hCl.2.2.2
  have hd1 : 1 ≤ d2 + 1 := Nat.le_add_left _ _
  have hC9 := hCl
  replace hCl := hCl.1
  intro x0 x1 x2 x4 x6 x7 x8 x9 x11 x12 x13 h hw
  unfold wb_J5_resize_271 at hw
  refine gk_qload (pc := 271) C.1 6 dJ5_resize_271 rfl ?_
  refine gk_qstore (pc := 273) (lv' := [(10, va_rf x8), (0, Value.ref x0), (1, va_rf x1), (2, Value.int x2), (4, Value.int x4), (6, Value.ref x6), (7, Value.int x7), (8, va_rf x8), (9, va_rf x9), (11, va_rf x11), (12, va_rf x12), (13, va_rf x13)]) C.1 dJ5_resize_273 (by rw [hXn]; decide) (by first | rfl | simp [va_rf_S, va_rf_cat, cat_i, cat_a, cat_l, cat_f, fin4_0, fin4_1, fin4_2, fin4_3]) ?_
  refine gk_goto (pc := 275) (tgt := 301) C.1 dJ5_resize_275 (by decide) ?_
  refine GK.sub (lv' := [(0, .ref x0), (1, va_rf x1), (2, .int x2), (4, .int x4), (6, .ref x6), (7, .int x7), (9, va_rf x9), (10, va_rf x8), (11, va_rf x11), (12, va_rf x12), (13, va_rf x13)]) [1, 2, 3, 4, 5, 6, 8, 0, 9, 10, 11] rfl ?_
  exact wk_J5_resize_301 C hC9 S0 hret hXn hini hTb hJ151 hJ235 _ _ _ _ _ _ _ _ _ _ _ _ hw
def wb_J5_resize_297 (cl : CT) (lm : Nat × Nat) (Q : QT) (E : ET) (J151 : Nat → Option Nat → Int32 → Int32 → Nat → Int32 → HS → Prop) (J235 : Nat → Option Nat → Int32 → Int32 → Nat → Int32 → Option Nat → Option Nat → Option Nat → Option Nat → Option Nat → HS → Prop) (x0 : Nat) (x1 : Option Nat) (x2 : Int32) (x4 : Int32) (x6 : Nat) (x7 : Int32) (x8 : Option Nat) (x9 : Option Nat) (x10 : Option Nat) (x11 : Option Nat) (x13 : Option Nat) (h : HS) : Prop := wb_J5_resize_301 cl lm Q E J151 J235 x0 x1 x2 x4 x6 x7 x9 x10 x11 x8 x13 h
theorem wk_J5_resize_297 {X : Ev} {G : GG} {cl : CT} {lm : Nat × Nat} {Q : QT} {E : ET} {h0 : HS} {d2 : Nat} {J151 : Nat → Option Nat → Int32 → Int32 → Nat → Int32 → HS → Prop} {J235 : Nat → Option Nat → Int32 → Int32 → Nat → Int32 → Option Nat → Option Nat → Option Nat → Option Nat → Option Nat → HS → Prop} (C : HC X G RJ5 cJ5_resize (d2 + 1)) (hCl : CallsOK (ev_l X) G d2 cl ∧ hLm G lm ∧ 8 ≤ d2 ∧ LamsOK (ev_l X) G d2 cl) (S0 : HS0 X h0) (hret : (ev_h X).sig.returnType = (Option.some (Jvm.ClassFile.FieldType.array (Jvm.ClassFile.FieldType.object "java/util/HashMap$Node")))) (hXn : ev_n X = 14) (hini : True) (hTb : (ev_c X).exceptionTable.toList = []) (hJ151 : ∀ (x0 : Nat) (x1 : Option Nat) (x2 : Int32) (x4 : Int32) (x6 : Nat) (x7 : Int32) (h : HS), J151 x0 x1 x2 x4 x6 x7 h → GH X G h (hQ X G h0 Q E) 151 [(0, .ref x0), (1, va_rf x1), (2, .int x2), (4, .int x4), (6, .ref x6), (7, .int x7)] []) (hJ235 : ∀ (x0 : Nat) (x1 : Option Nat) (x2 : Int32) (x4 : Int32) (x6 : Nat) (x7 : Int32) (x8 : Option Nat) (x9 : Option Nat) (x10 : Option Nat) (x11 : Option Nat) (x12 : Option Nat) (h : HS), J235 x0 x1 x2 x4 x6 x7 x8 x9 x10 x11 x12 h → GH X G h (hQ X G h0 Q E) 235 [(0, .ref x0), (1, va_rf x1), (2, .int x2), (4, .int x4), (6, .ref x6), (7, .int x7), (8, va_rf x8), (9, va_rf x9), (10, va_rf x10), (11, va_rf x11), (12, va_rf x12)] []) : ∀ (x0 : Nat) (x1 : Option Nat) (x2 : Int32) (x4 : Int32) (x6 : Nat) (x7 : Int32) (x8 : Option Nat) (x9 : Option Nat) (x10 : Option Nat) (x11 : Option Nat) (x13 : Option Nat) (h : HS), wb_J5_resize_297 cl lm Q E J151 J235 x0 x1 x2 x4 x6 x7 x8 x9 x10 x11 x13 h → GH X G h (hQ X G h0 Q E) 297 [(0, .ref x0), (1, va_rf x1), (2, .int x2), (4, .int x4), (6, .ref x6), (7, .int x7), (8, va_rf x8), (9, va_rf x9), (10, va_rf x10), (11, va_rf x11), (13, va_rf x13)] [] := by
  have hlm := hCl.2.1
  have hd8 := hCl.2.2.1
  have hd2 : 1 ≤ d2 := Nat.le_trans (by decide) hd8
  have hLa := hCl.2.2.2
  have hd1 : 1 ≤ d2 + 1 := Nat.le_add_left _ _
  have hC9 := hCl
  replace hCl := hCl.1
  intro x0 x1 x2 x4 x6 x7 x8 x9 x10 x11 x13 h hw
  unfold wb_J5_resize_297 at hw
  refine gk_qload (pc := 297) C.1 6 dJ5_resize_297 rfl ?_
  refine gk_qstore (pc := 299) (lv' := [(12, va_rf x8), (0, Value.ref x0), (1, va_rf x1), (2, Value.int x2), (4, Value.int x4), (6, Value.ref x6), (7, Value.int x7), (8, va_rf x8), (9, va_rf x9), (10, va_rf x10), (11, va_rf x11), (13, va_rf x13)]) C.1 dJ5_resize_299 (by rw [hXn]; decide) (by first | rfl | simp [va_rf_S, va_rf_cat, cat_i, cat_a, cat_l, cat_f, fin4_0, fin4_1, fin4_2, fin4_3]) ?_
  refine GK.sub (lv' := [(0, .ref x0), (1, va_rf x1), (2, .int x2), (4, .int x4), (6, .ref x6), (7, .int x7), (9, va_rf x9), (10, va_rf x10), (11, va_rf x11), (12, va_rf x8), (13, va_rf x13)]) [1, 2, 3, 4, 5, 6, 8, 9, 10, 0, 11] rfl ?_
  exact wk_J5_resize_301 C hC9 S0 hret hXn hini hTb hJ151 hJ235 _ _ _ _ _ _ _ _ _ _ _ _ hw
def wb_J5_resize_235 (cl : CT) (lm : Nat × Nat) (Q : QT) (E : ET) (J151 : Nat → Option Nat → Int32 → Int32 → Nat → Int32 → HS → Prop) : Nat → Nat → Option Nat → Int32 → Int32 → Nat → Int32 → Option Nat → Option Nat → Option Nat → Option Nat → Option Nat → HS → Prop
  | 0 => fun _ _ _ _ _ _ _ _ _ _ _ _ => False
  | n + 1 => fun x0 x1 x2 x4 x6 x7 x8 x9 x10 x11 x12 h => ∃ a_1 : Nat, x8 = some a_1 ∧ ((hT h a_1 = 21 ∨ hT h a_1 = 22) ∧ (∀ r_2 : Option Nat, r_2 = hR h 74 a_1 → ((hT h a_1 = 21 ∨ hT h a_1 = 22) ∧ (((¬ ((hI h 71 a_1) &&& x2) = 0 → ((x12 = none → (wb_J5_resize_297 cl lm Q E J151 (fun yx0 yx1 yx2 yx4 yx6 yx7 yx8 yx9 yx10 yx11 yx12 yh => wb_J5_resize_235 cl lm Q E J151 n yx0 yx1 yx2 yx4 yx6 yx7 yx8 yx9 yx10 yx11 yx12 yh) x0 x1 x2 x4 x6 x7 (some a_1) x9 x10 (some a_1) r_2 h)) ∧ (∀ a_5 : Nat, x12 = some a_5 → ((hT h a_5 = 21 ∨ hT h a_5 = 22) ∧ (∀ h_6 : HS, h_6 = sR h 74 a_5 (some a_1) → (wb_J5_resize_297 cl lm Q E J151 (fun yx0 yx1 yx2 yx4 yx6 yx7 yx8 yx9 yx10 yx11 yx12 yh => wb_J5_resize_235 cl lm Q E J151 n yx0 yx1 yx2 yx4 yx6 yx7 yx8 yx9 yx10 yx11 yx12 yh) x0 x1 x2 x4 x6 x7 (some a_1) x9 x10 x11 r_2 h_6)))))) ∧ (((hI h 71 a_1) &&& x2) = 0 → ((x10 = none → (wb_J5_resize_271 cl lm Q E J151 (fun yx0 yx1 yx2 yx4 yx6 yx7 yx8 yx9 yx10 yx11 yx12 yh => wb_J5_resize_235 cl lm Q E J151 n yx0 yx1 yx2 yx4 yx6 yx7 yx8 yx9 yx10 yx11 yx12 yh) x0 x1 x2 x4 x6 x7 (some a_1) (some a_1) x11 x12 r_2 h)) ∧ (∀ a_8 : Nat, x10 = some a_8 → ((hT h a_8 = 21 ∨ hT h a_8 = 22) ∧ (∀ h_9 : HS, h_9 = sR h 74 a_8 (some a_1) → (wb_J5_resize_271 cl lm Q E J151 (fun yx0 yx1 yx2 yx4 yx6 yx7 yx8 yx9 yx10 yx11 yx12 yh => wb_J5_resize_235 cl lm Q E J151 n yx0 yx1 yx2 yx4 yx6 yx7 yx8 yx9 yx10 yx11 yx12 yh) x0 x1 x2 x4 x6 x7 (some a_1) x9 x11 x12 r_2 h_9)))))))))))
theorem wk_J5_resize_235 {X : Ev} {G : GG} {cl : CT} {lm : Nat × Nat} {Q : QT} {E : ET} {h0 : HS} {d2 : Nat} {J151 : Nat → Option Nat → Int32 → Int32 → Nat → Int32 → HS → Prop} (C : HC X G RJ5 cJ5_resize (d2 + 1)) (hCl : CallsOK (ev_l X) G d2 cl ∧ hLm G lm ∧ 8 ≤ d2 ∧ LamsOK (ev_l X) G d2 cl) (S0 : HS0 X h0) (hret : (ev_h X).sig.returnType = (Option.some (Jvm.ClassFile.FieldType.array (Jvm.ClassFile.FieldType.object "java/util/HashMap$Node")))) (hXn : ev_n X = 14) (hini : True) (hTb : (ev_c X).exceptionTable.toList = []) (hJ151 : ∀ (x0 : Nat) (x1 : Option Nat) (x2 : Int32) (x4 : Int32) (x6 : Nat) (x7 : Int32) (h : HS), J151 x0 x1 x2 x4 x6 x7 h → GH X G h (hQ X G h0 Q E) 151 [(0, .ref x0), (1, va_rf x1), (2, .int x2), (4, .int x4), (6, .ref x6), (7, .int x7)] []) : ∀ (n : Nat) (x0 : Nat) (x1 : Option Nat) (x2 : Int32) (x4 : Int32) (x6 : Nat) (x7 : Int32) (x8 : Option Nat) (x9 : Option Nat) (x10 : Option Nat) (x11 : Option Nat) (x12 : Option Nat) (h : HS), wb_J5_resize_235 cl lm Q E J151 n x0 x1 x2 x4 x6 x7 x8 x9 x10 x11 x12 h → GH X G h (hQ X G h0 Q E) 235 [(0, .ref x0), (1, va_rf x1), (2, .int x2), (4, .int x4), (6, .ref x6), (7, .int x7), (8, va_rf x8), (9, va_rf x9), (10, va_rf x10), (11, va_rf x11), (12, va_rf x12)] [] := by
  have hlm := hCl.2.1
  have hd8 := hCl.2.2.1
  have hd2 : 1 ≤ d2 := Nat.le_trans (by decide) hd8
  have hLa := hCl.2.2.2
  have hd1 : 1 ≤ d2 + 1 := Nat.le_add_left _ _
  have hC9 := hCl
  replace hCl := hCl.1
  intro n
  induction n with
  | zero => intro x0 x1 x2 x4 x6 x7 x8 x9 x10 x11 x12 h hw; exact hw.elim
  | succ n ih =>
  intro x0 x1 x2 x4 x6 x7 x8 x9 x10 x11 x12 h hw
  unfold wb_J5_resize_235 at hw
  refine gk_qload (pc := 235) C.1 6 dJ5_resize_235 rfl ?_
  obtain ⟨a_1, rfl, hw⟩ := hw
  obtain ⟨ht, hw⟩ := hw
  refine gf_J5_177 (pc := 237) C ht dJ5_resize_237 (fun r_2 er_2 => ?_)
  replace hw := hw r_2 er_2
  refine gk_qstore (pc := 240) (lv' := [(13, va_rf r_2), (0, Value.ref x0), (1, va_rf x1), (2, Value.int x2), (4, Value.int x4), (6, Value.ref x6), (7, Value.int x7), (8, Value.ref a_1), (9, va_rf x9), (10, va_rf x10), (11, va_rf x11), (12, va_rf x12)]) C.1 dJ5_resize_240 (by rw [hXn]; decide) (by first | rfl | simp [va_rf_S, va_rf_cat, cat_i, cat_a, cat_l, cat_f, fin4_0, fin4_1, fin4_2, fin4_3]) ?_
  refine gk_aload (pc := 242) C.1 7 dJ5_resize_242 rfl ?_
  obtain ⟨ht, hw⟩ := hw
  refine gf_J5_168 (pc := 244) C ht dJ5_resize_244 ?_
  refine gk_iload_n (pc := 247) C.1 3 dJ5_resize_247 rfl rfl ?_
  refine gk_iand (pc := 248) C.1 dJ5_resize_248 ?_
  refine gk_if_ne (pc := 249) (tgt := 278) C.1 dJ5_resize_249 (by decide) (fun c_3 => ?_) (fun c_3 => ?_)
  · replace hw := hw.1 c_3
    refine gk_qload (pc := 278) C.1 11 dJ5_resize_278 rfl ?_
    refine gk_ifnonnull (pc := 280) (tgt := 290) C.1 dJ5_resize_280 (by decide) (fun c_4 => ?_) (fun c_4 => ?_)
    · obtain ⟨a_5, c_4⟩ := Option.ne_none_iff_exists'.mp c_4
      replace hw := hw.2 a_5 c_4
      subst c_4
      refine gk_aload (pc := 290) C.1 11 dJ5_resize_290 rfl ?_
      refine gk_aload (pc := 292) C.1 7 dJ5_resize_292 rfl ?_
      obtain ⟨ht, hw⟩ := hw
      refine gfp_J5_177 (pc := 294) (r := (some a_1)) C ht dJ5_resize_294 (fun h_6 eh_6 => ?_)
      replace hw := hw h_6 eh_6
      refine GK.sub (lv' := [(0, .ref x0), (1, va_rf x1), (2, .int x2), (4, .int x4), (6, .ref x6), (7, .int x7), (8, va_rf (some a_1)), (9, va_rf x9), (10, va_rf x10), (11, va_rf x11), (13, va_rf r_2)]) [1, 2, 3, 4, 5, 6, 7, 8, 9, 10, 0] rfl ?_
      exact wk_J5_resize_297 C hC9 S0 hret hXn hini hTb hJ151 ih _ _ _ _ _ _ _ _ _ _ _ _ hw
    · replace hw := hw.1 c_4
      subst c_4
      refine gk_aload (pc := 283) C.1 7 dJ5_resize_283 rfl ?_
      refine gk_astore (pc := 285) (lv' := [(11, Value.ref a_1), (13, va_rf r_2), (0, Value.ref x0), (1, va_rf x1), (2, Value.int x2), (4, Value.int x4), (6, Value.ref x6), (7, Value.int x7), (8, Value.ref a_1), (9, va_rf x9), (10, va_rf x10), (12, va_rf none)]) C.1 dJ5_resize_285 (by rw [hXn]; decide) (by first | rfl | simp [va_rf_S, va_rf_cat, cat_i, cat_a, cat_l, cat_f, fin4_0, fin4_1, fin4_2, fin4_3]) ?_
      refine gk_goto (pc := 287) (tgt := 297) C.1 dJ5_resize_287 (by decide) ?_
      refine GK.sub (lv' := [(0, .ref x0), (1, va_rf x1), (2, .int x2), (4, .int x4), (6, .ref x6), (7, .int x7), (8, va_rf (some a_1)), (9, va_rf x9), (10, va_rf x10), (11, va_rf (some a_1)), (13, va_rf r_2)]) [2, 3, 4, 5, 6, 7, 8, 9, 10, 0, 1] rfl ?_
      exact wk_J5_resize_297 C hC9 S0 hret hXn hini hTb hJ151 ih _ _ _ _ _ _ _ _ _ _ _ _ hw
  · replace hw := hw.2 c_3
    refine gk_qload (pc := 252) C.1 9 dJ5_resize_252 rfl ?_
    refine gk_ifnonnull (pc := 254) (tgt := 264) C.1 dJ5_resize_254 (by decide) (fun c_7 => ?_) (fun c_7 => ?_)
    · obtain ⟨a_8, c_7⟩ := Option.ne_none_iff_exists'.mp c_7
      replace hw := hw.2 a_8 c_7
      subst c_7
      refine gk_aload (pc := 264) C.1 9 dJ5_resize_264 rfl ?_
      refine gk_aload (pc := 266) C.1 7 dJ5_resize_266 rfl ?_
      obtain ⟨ht, hw⟩ := hw
      refine gfp_J5_177 (pc := 268) (r := (some a_1)) C ht dJ5_resize_268 (fun h_9 eh_9 => ?_)
      replace hw := hw h_9 eh_9
      refine GK.sub (lv' := [(0, .ref x0), (1, va_rf x1), (2, .int x2), (4, .int x4), (6, .ref x6), (7, .int x7), (8, va_rf (some a_1)), (9, va_rf x9), (11, va_rf x11), (12, va_rf x12), (13, va_rf r_2)]) [1, 2, 3, 4, 5, 6, 7, 8, 10, 11, 0] rfl ?_
      exact wk_J5_resize_271 C hC9 S0 hret hXn hini hTb hJ151 ih _ _ _ _ _ _ _ _ _ _ _ _ hw
    · replace hw := hw.1 c_7
      subst c_7
      refine gk_aload (pc := 257) C.1 7 dJ5_resize_257 rfl ?_
      refine gk_astore (pc := 259) (lv' := [(9, Value.ref a_1), (13, va_rf r_2), (0, Value.ref x0), (1, va_rf x1), (2, Value.int x2), (4, Value.int x4), (6, Value.ref x6), (7, Value.int x7), (8, Value.ref a_1), (10, va_rf none), (11, va_rf x11), (12, va_rf x12)]) C.1 dJ5_resize_259 (by rw [hXn]; decide) (by first | rfl | simp [va_rf_S, va_rf_cat, cat_i, cat_a, cat_l, cat_f, fin4_0, fin4_1, fin4_2, fin4_3]) ?_
      refine gk_goto (pc := 261) (tgt := 271) C.1 dJ5_resize_261 (by decide) ?_
      refine GK.sub (lv' := [(0, .ref x0), (1, va_rf x1), (2, .int x2), (4, .int x4), (6, .ref x6), (7, .int x7), (8, va_rf (some a_1)), (9, va_rf (some a_1)), (11, va_rf x11), (12, va_rf x12), (13, va_rf r_2)]) [2, 3, 4, 5, 6, 7, 8, 0, 10, 11, 1] rfl ?_
      exact wk_J5_resize_271 C hC9 S0 hret hXn hini hTb hJ151 ih _ _ _ _ _ _ _ _ _ _ _ _ hw
def wb_J5_resize_151 (cl : CT) (lm : Nat × Nat) (Q : QT) (E : ET) : Nat → Nat → Option Nat → Int32 → Int32 → Nat → Int32 → HS → Prop
  | 0 => fun _ _ _ _ _ _ _ => False
  | n + 1 => fun x0 x1 x2 x4 x6 x7 h => ((x2 ≤ x7 → (Q (some (va_rf (some x6))) h)) ∧ (¬ x2 ≤ x7 → (∃ a_2 : Nat, x1 = some a_2 ∧ (hT h a_2 = 116 ∧ (vp_in x7 (hN h a_2) ∧ (∀ r_3 : Option Nat, r_3 = hB h a_2 x7.toNatClampNeg → ((r_3 = none → (wb_J5_resize_347 cl lm Q E (fun yx0 yx1 yx2 yx4 yx6 yx7 yh => wb_J5_resize_151 cl lm Q E n yx0 yx1 yx2 yx4 yx6 yx7 yh) x0 (some a_2) x2 x4 x6 x7 h)) ∧ (∀ a_5 : Nat, r_3 = some a_5 → (hT h a_2 = 116 ∧ (vp_in x7 (hN h a_2) ∧ (as_J9 h none ∧ (∀ h_6 : HS, h_6 = sB h a_2 x7.toNatClampNeg none → ((hT h_6 a_5 = 21 ∨ hT h_6 a_5 = 22) ∧ (∀ r_7 : Option Nat, r_7 = hR h_6 74 a_5 → ((r_7 = none → ((hT h_6 a_5 = 21 ∨ hT h_6 a_5 = 22) ∧ (hT h_6 x6 = 116 ∧ (vp_in ((hI h_6 71 a_5) &&& (x4 - 1)) (hN h_6 x6) ∧ (as_J9 h_6 (some a_5) ∧ (∀ h_10 : HS, h_10 = sB h_6 x6 ((hI h_6 71 a_5) &&& (x4 - 1)).toNatClampNeg (some a_5) → (wb_J5_resize_347 cl lm Q E (fun yx0 yx1 yx2 yx4 yx6 yx7 yh => wb_J5_resize_151 cl lm Q E n yx0 yx1 yx2 yx4 yx6 yx7 yh) x0 (some a_2) x2 x4 x6 x7 h_10))))))) ∧ (∀ a_9 : Nat, r_7 = some a_9 → ((False ∧ True) ∨ ((hT h_6 a_5 = 21 ∨ hT h_6 a_5 = 22) ∧ (∃ fu : Nat, wb_J5_resize_235 cl lm Q E (fun yx0 yx1 yx2 yx4 yx6 yx7 yh => wb_J5_resize_151 cl lm Q E n yx0 yx1 yx2 yx4 yx6 yx7 yh) fu x0 (some a_2) x2 x4 x6 x7 (some a_5) none none none none h_6)))))))))))))))))))
theorem wk_J5_resize_151 {X : Ev} {G : GG} {cl : CT} {lm : Nat × Nat} {Q : QT} {E : ET} {h0 : HS} {d2 : Nat} (C : HC X G RJ5 cJ5_resize (d2 + 1)) (hCl : CallsOK (ev_l X) G d2 cl ∧ hLm G lm ∧ 8 ≤ d2 ∧ LamsOK (ev_l X) G d2 cl) (S0 : HS0 X h0) (hret : (ev_h X).sig.returnType = (Option.some (Jvm.ClassFile.FieldType.array (Jvm.ClassFile.FieldType.object "java/util/HashMap$Node")))) (hXn : ev_n X = 14) (hini : True) (hTb : (ev_c X).exceptionTable.toList = []) : ∀ (n : Nat) (x0 : Nat) (x1 : Option Nat) (x2 : Int32) (x4 : Int32) (x6 : Nat) (x7 : Int32) (h : HS), wb_J5_resize_151 cl lm Q E n x0 x1 x2 x4 x6 x7 h → GH X G h (hQ X G h0 Q E) 151 [(0, .ref x0), (1, va_rf x1), (2, .int x2), (4, .int x4), (6, .ref x6), (7, .int x7)] [] := by
  have hlm := hCl.2.1
  have hd8 := hCl.2.2.1
  have hd2 : 1 ≤ d2 := Nat.le_trans (by decide) hd8
  have hLa := hCl.2.2.2
  have hd1 : 1 ≤ d2 + 1 := Nat.le_add_left _ _
  have hC9 := hCl
  replace hCl := hCl.1
  intro n
  induction n with
  | zero => intro x0 x1 x2 x4 x6 x7 h hw; exact hw.elim
  | succ n ih =>
  intro x0 x1 x2 x4 x6 x7 h hw
  unfold wb_J5_resize_151 at hw
  refine gk_iload (pc := 151) C.1 5 dJ5_resize_151 rfl ?_
  refine gk_iload_n (pc := 153) C.1 2 dJ5_resize_153 rfl rfl ?_
  refine gk_icmp_ge (pc := 154) (tgt := 353) C.1 dJ5_resize_154 (by decide) (fun c_1 => ?_) (fun c_1 => ?_)
  · replace hw := hw.1 c_1
    refine gk_aload (pc := 353) C.1 4 dJ5_resize_353 rfl ?_
    exact gh_aret (pc := 355) (r := (some x6)) C S0 hret (Or.inr ⟨_, rfl⟩) dJ5_resize_355 hw
  · replace hw := hw.2 c_1
    refine gk_qload_n (pc := 157) C.1 1 dJ5_resize_157 rfl rfl ?_
    refine gk_iload (pc := 158) C.1 5 dJ5_resize_158 rfl ?_
    obtain ⟨a_2, rfl, hw⟩ := hw
    obtain ⟨ht, hi, hw⟩ := hw
    refine gh_aald (pc := 160) (t0 := 8) (E := "java/util/HashMap$Node") C ht (by decide) (by decide) rfl hi dJ5_resize_160 ?_
    obtain ⟨r_3, er_3⟩ : ∃ z : Option Nat, z = hB h a_2 x7.toNatClampNeg := ⟨_, rfl⟩
    rw [← er_3]
    replace hw := hw r_3 er_3
    refine gk_dup (pc := 161) C.1 dJ5_resize_161 (va_rf_cat _) ?_
    refine gk_qstore (pc := 162) (lv' := [(8, va_rf r_3), (0, Value.ref x0), (1, Value.ref a_2), (2, Value.int x2), (4, Value.int x4), (6, Value.ref x6), (7, Value.int x7)]) C.1 dJ5_resize_162 (by rw [hXn]; decide) (by first | rfl | simp [va_rf_S, va_rf_cat, cat_i, cat_a, cat_l, cat_f, fin4_0, fin4_1, fin4_2, fin4_3]) ?_
    refine gk_ifnull (pc := 164) (tgt := 347) C.1 dJ5_resize_164 (by decide) (fun c_4 => ?_) (fun c_4 => ?_)
    · replace hw := hw.1 c_4
      subst c_4
      refine GK.sub (lv' := [(0, .ref x0), (1, va_rf (some a_2)), (2, .int x2), (4, .int x4), (6, .ref x6), (7, .int x7)]) [1, 2, 3, 4, 5, 6] rfl ?_
      exact wk_J5_resize_347 C hC9 S0 hret hXn hini hTb ih _ _ _ _ _ _ _ hw
    · obtain ⟨a_5, c_4⟩ := Option.ne_none_iff_exists'.mp c_4
      replace hw := hw.2 a_5 c_4
      subst c_4
      refine gk_aload_n (pc := 167) C.1 2 dJ5_resize_167 rfl rfl ?_
      refine gk_iload (pc := 168) C.1 6 dJ5_resize_168 rfl ?_
      refine gk_null (pc := 170) C.1 dJ5_resize_170 ?_
      obtain ⟨ht, hi, hs, hw⟩ := hw
      refine gh_aast (pc := 171) (r := none) (t0 := 8) (E := "java/util/HashMap$Node") C ht (by decide) (by decide) rfl (as_J9_ok hs) hi dJ5_resize_171 ?_
      obtain ⟨h_6, eh_6⟩ : ∃ z : HS, z = sB h a_2 x7.toNatClampNeg none := ⟨_, rfl⟩
      rw [← eh_6]
      replace hw := hw h_6 eh_6
      refine gk_aload (pc := 172) C.1 0 dJ5_resize_172 rfl ?_
      obtain ⟨ht, hw⟩ := hw
      refine gf_J5_177 (pc := 174) C ht dJ5_resize_174 (fun r_7 er_7 => ?_)
      replace hw := hw r_7 er_7
      refine gk_ifnonnull (pc := 177) (tgt := 198) C.1 dJ5_resize_177 (by decide) (fun c_8 => ?_) (fun c_8 => ?_)
      · obtain ⟨a_9, c_8⟩ := Option.ne_none_iff_exists'.mp c_8
        replace hw := hw.2 a_9 c_8
        subst c_8
        refine gk_aload (pc := 198) C.1 0 dJ5_resize_198 rfl ?_
        rcases hw with ⟨hs, hw⟩ | ⟨hs, hw⟩
        · exact hs.elim
        · refine gi_J5_180_n (pc := 200) (r := (some a_5)) C (fun z hz => by cases hz; exact hs) dJ5_resize_200 ?_
          refine gk_if_eq (pc := 203) (tgt := 223) C.1 dJ5_resize_203 (by decide) (fun c9 => ?_) (fun c9 => ?_)
          rotate_left
          · exact absurd rfl c9
          refine gk_null (pc := 223) C.1 dJ5_resize_223 ?_
          refine gk_qstore (pc := 224) (x := none) (lv' := [(9, va_rf none), (8, Value.ref a_5), (0, Value.ref x0), (1, Value.ref a_2), (2, Value.int x2), (4, Value.int x4), (6, Value.ref x6), (7, Value.int x7)]) C.1 dJ5_resize_224 (by rw [hXn]; decide) (by first | rfl | simp [va_rf_S, va_rf_cat, cat_i, cat_a, cat_l, cat_f, fin4_0, fin4_1, fin4_2, fin4_3]) ?_
          refine gk_null (pc := 226) C.1 dJ5_resize_226 ?_
          refine gk_qstore (pc := 227) (x := none) (lv' := [(10, va_rf none), (9, va_rf none), (8, Value.ref a_5), (0, Value.ref x0), (1, Value.ref a_2), (2, Value.int x2), (4, Value.int x4), (6, Value.ref x6), (7, Value.int x7)]) C.1 dJ5_resize_227 (by rw [hXn]; decide) (by first | rfl | simp [va_rf_S, va_rf_cat, cat_i, cat_a, cat_l, cat_f, fin4_0, fin4_1, fin4_2, fin4_3]) ?_
          refine gk_null (pc := 229) C.1 dJ5_resize_229 ?_
          refine gk_qstore (pc := 230) (x := none) (lv' := [(11, va_rf none), (10, va_rf none), (9, va_rf none), (8, Value.ref a_5), (0, Value.ref x0), (1, Value.ref a_2), (2, Value.int x2), (4, Value.int x4), (6, Value.ref x6), (7, Value.int x7)]) C.1 dJ5_resize_230 (by rw [hXn]; decide) (by first | rfl | simp [va_rf_S, va_rf_cat, cat_i, cat_a, cat_l, cat_f, fin4_0, fin4_1, fin4_2, fin4_3]) ?_
          refine gk_null (pc := 232) C.1 dJ5_resize_232 ?_
          refine gk_qstore (pc := 233) (x := none) (lv' := [(12, va_rf none), (11, va_rf none), (10, va_rf none), (9, va_rf none), (8, Value.ref a_5), (0, Value.ref x0), (1, Value.ref a_2), (2, Value.int x2), (4, Value.int x4), (6, Value.ref x6), (7, Value.int x7)]) C.1 dJ5_resize_233 (by rw [hXn]; decide) (by first | rfl | simp [va_rf_S, va_rf_cat, cat_i, cat_a, cat_l, cat_f, fin4_0, fin4_1, fin4_2, fin4_3]) ?_
          refine GK.sub (lv' := [(0, .ref x0), (1, va_rf (some a_2)), (2, .int x2), (4, .int x4), (6, .ref x6), (7, .int x7), (8, va_rf (some a_5)), (9, va_rf none), (10, va_rf none), (11, va_rf none), (12, va_rf none)]) [5, 6, 7, 8, 9, 10, 4, 3, 2, 1, 0] rfl ?_
          obtain ⟨n9, hw⟩ := hw
          exact wk_J5_resize_235 C hC9 S0 hret hXn hini hTb ih n9 _ _ _ _ _ _ _ _ _ _ _ _ hw
      · replace hw := hw.1 c_8
        subst c_8
        refine gk_aload (pc := 180) C.1 5 dJ5_resize_180 rfl ?_
        refine gk_aload (pc := 182) C.1 0 dJ5_resize_182 rfl ?_
        obtain ⟨ht, hw⟩ := hw
        refine gf_J5_168 (pc := 184) C ht dJ5_resize_184 ?_
        refine gk_iload (pc := 187) C.1 4 dJ5_resize_187 rfl ?_
        refine gk_iconst (pc := 189) (v := 1) C.1 dJ5_resize_189 (by decide) ?_
        refine gk_isub (pc := 190) C.1 dJ5_resize_190 ?_
        refine gk_iand (pc := 191) C.1 dJ5_resize_191 ?_
        refine gk_aload (pc := 192) C.1 0 dJ5_resize_192 rfl ?_
        obtain ⟨ht, hi, hs, hw⟩ := hw
        refine gh_aast (pc := 194) (r := (some a_5)) (t0 := 8) (E := "java/util/HashMap$Node") C ht (by decide) (by decide) rfl (as_J9_ok hs) hi dJ5_resize_194 ?_
        obtain ⟨h_10, eh_10⟩ : ∃ z : HS, z = sB h_6 x6 ((hI h_6 71 a_5) &&& (x4 - 1)).toNatClampNeg (some a_5) := ⟨_, rfl⟩
        rw [← eh_10]
        replace hw := hw h_10 eh_10
        refine gk_goto (pc := 195) (tgt := 347) C.1 dJ5_resize_195 (by decide) ?_
        refine GK.sub (lv' := [(0, .ref x0), (1, va_rf (some a_2)), (2, .int x2), (4, .int x4), (6, .ref x6), (7, .int x7)]) [1, 2, 3, 4, 5, 6] rfl ?_
        exact wk_J5_resize_347 C hC9 S0 hret hXn hini hTb ih _ _ _ _ _ _ _ hw
def wb_J5_resize_125 (cl : CT) (lm : Nat × Nat) (Q : QT) (E : ET) (x0 : Nat) (x1 : Option Nat) (x2 : Int32) (x4 : Int32) (x5 : Int32) (h : HS) : Prop := (hT h x0 = 19 ∨ hT h x0 = 20) ∧ (∀ h_1 : HS, h_1 = sI h 65 x0 x5 → (¬ x4 < 0 ∧ (x4.toNatClampNeg * 4 ≤ 536870912 ∧ (hZ h_1 + 1 ≤ lm.1 ∧ (hL h_1 + x4.toNatClampNeg ≤ lm.2 ∧ (∀ (a_3 : Nat) (h_2 : HS), a_3 = hZ h_1 → h_2 = hNew h_1 116 x4.toNatClampNeg x4.toNatClampNeg → ((hT h_2 x0 = 19 ∨ hT h_2 x0 = 20) ∧ (∀ h_4 : HS, h_4 = sR h_2 61 x0 (some a_3) → ((x1 = none → (Q (some (va_rf (some a_3))) h_4)) ∧ (∀ a_6 : Nat, x1 = some a_6 → (∃ fu : Nat, wb_J5_resize_151 cl lm Q E fu x0 (some a_6) x2 x4 a_3 0 h_4)))))))))))
theorem wk_J5_resize_125 {X : Ev} {G : GG} {cl : CT} {lm : Nat × Nat} {Q : QT} {E : ET} {h0 : HS} {d2 : Nat} (C : HC X G RJ5 cJ5_resize (d2 + 1)) (hCl : CallsOK (ev_l X) G d2 cl ∧ hLm G lm ∧ 8 ≤ d2 ∧ LamsOK (ev_l X) G d2 cl) (S0 : HS0 X h0) (hret : (ev_h X).sig.returnType = (Option.some (Jvm.ClassFile.FieldType.array (Jvm.ClassFile.FieldType.object "java/util/HashMap$Node")))) (hXn : ev_n X = 14) (hini : True) (hTb : (ev_c X).exceptionTable.toList = []) : ∀ (x0 : Nat) (x1 : Option Nat) (x2 : Int32) (x4 : Int32) (x5 : Int32) (h : HS), wb_J5_resize_125 cl lm Q E x0 x1 x2 x4 x5 h → GH X G h (hQ X G h0 Q E) 125 [(0, .ref x0), (1, va_rf x1), (2, .int x2), (4, .int x4), (5, .int x5)] [] := by
  have hlm := hCl.2.1
  have hd8 := hCl.2.2.1
  have hd2 : 1 ≤ d2 := Nat.le_trans (by decide) hd8
  have hLa := hCl.2.2.2
  have hd1 : 1 ≤ d2 + 1 := Nat.le_add_left _ _
  have hC9 := hCl
  replace hCl := hCl.1
  intro x0 x1 x2 x4 x5 h hw
  unfold wb_J5_resize_125 at hw
  refine gk_aload_n (pc := 125) C.1 0 dJ5_resize_125 rfl rfl ?_
  refine gk_iload (pc := 126) C.1 4 dJ5_resize_126 rfl ?_
  obtain ⟨ht, hw⟩ := hw
  refine gfp_J5_88 (pc := 128) C ht dJ5_resize_128 (fun h_1 eh_1 => ?_)
  replace hw := hw h_1 eh_1
  refine gk_iload (pc := 131) C.1 3 dJ5_resize_131 rfl ?_
  obtain ⟨hn0, hby, hr1, hr2, hw⟩ := hw
  refine gh_anew (pc := 133) (t := 116) (t0 := 8) (E := "java/util/HashMap$Node") C ⟨by decide, by decide⟩ rfl q830 q831 hn0 hby (hlm.1 ▸ hr1) (hlm.2 ▸ hr2) dJ5_resize_133 ?_
  obtain ⟨h_2, eh_2⟩ : ∃ z : HS, z = hNew h_1 116 x4.toNatClampNeg x4.toNatClampNeg := ⟨_, rfl⟩
  rw [← eh_2]
  obtain ⟨a_3, ea_3⟩ : ∃ z : Nat, z = hZ h_1 := ⟨_, rfl⟩
  rw [← ea_3]
  replace hw := hw a_3 h_2 ea_3 eh_2
  refine gk_astore (pc := 136) (lv' := [(6, Value.ref a_3), (0, Value.ref x0), (1, va_rf x1), (2, Value.int x2), (4, Value.int x4), (5, Value.int x5)]) C.1 dJ5_resize_136 (by rw [hXn]; decide) (by first | rfl | simp [va_rf_S, va_rf_cat, cat_i, cat_a, cat_l, cat_f, fin4_0, fin4_1, fin4_2, fin4_3]) ?_
  refine gk_aload_n (pc := 138) C.1 1 dJ5_resize_138 rfl rfl ?_
  refine gk_aload (pc := 139) C.1 0 dJ5_resize_139 rfl ?_
  obtain ⟨ht, hw⟩ := hw
  refine gfp_J5_105 (pc := 141) (r := (some a_3)) C ht dJ5_resize_141 (fun h_4 eh_4 => ?_)
  replace hw := hw h_4 eh_4
  refine gk_qload_n (pc := 144) C.1 2 dJ5_resize_144 rfl rfl ?_
  refine gk_ifnull (pc := 145) (tgt := 353) C.1 dJ5_resize_145 (by decide) (fun c_5 => ?_) (fun c_5 => ?_)
  · replace hw := hw.1 c_5
    subst c_5
    refine gk_aload (pc := 353) C.1 0 dJ5_resize_353 rfl ?_
    exact gh_aret (pc := 355) (r := (some a_3)) C S0 hret (Or.inr ⟨_, rfl⟩) dJ5_resize_355 hw
  · obtain ⟨a_6, c_5⟩ := Option.ne_none_iff_exists'.mp c_5
    replace hw := hw.2 a_6 c_5
    subst c_5
    refine gk_iconst (pc := 148) (v := 0) C.1 dJ5_resize_148 (by decide) ?_
    refine gk_istore (pc := 149) (lv' := [(7, Value.int 0), (6, Value.ref a_3), (0, Value.ref x0), (1, Value.ref a_6), (2, Value.int x2), (4, Value.int x4), (5, Value.int x5)]) C.1 dJ5_resize_149 (by rw [hXn]; decide) (by first | rfl | simp [va_rf_S, va_rf_cat, cat_i, cat_a, cat_l, cat_f, fin4_0, fin4_1, fin4_2, fin4_3]) ?_
    refine GK.sub (lv' := [(0, .ref x0), (1, va_rf (some a_6)), (2, .int x2), (4, .int x4), (6, .ref a_3), (7, .int 0)]) [2, 3, 4, 5, 1, 0] rfl ?_
    obtain ⟨n9, hw⟩ := hw
    exact wk_J5_resize_151 C hC9 S0 hret hXn hini hTb  n9 _ _ _ _ _ _ _ hw
def wb_J5_resize_123 (cl : CT) (lm : Nat × Nat) (Q : QT) (E : ET) (x0 : Nat) (x1 : Option Nat) (x2 : Int32) (x4 : Int32) (s0 : Int32) (h : HS) : Prop := wb_J5_resize_125 cl lm Q E x0 x1 x2 x4 s0 h
theorem wk_J5_resize_123 {X : Ev} {G : GG} {cl : CT} {lm : Nat × Nat} {Q : QT} {E : ET} {h0 : HS} {d2 : Nat} (C : HC X G RJ5 cJ5_resize (d2 + 1)) (hCl : CallsOK (ev_l X) G d2 cl ∧ hLm G lm ∧ 8 ≤ d2 ∧ LamsOK (ev_l X) G d2 cl) (S0 : HS0 X h0) (hret : (ev_h X).sig.returnType = (Option.some (Jvm.ClassFile.FieldType.array (Jvm.ClassFile.FieldType.object "java/util/HashMap$Node")))) (hXn : ev_n X = 14) (hini : True) (hTb : (ev_c X).exceptionTable.toList = []) : ∀ (x0 : Nat) (x1 : Option Nat) (x2 : Int32) (x4 : Int32) (s0 : Int32) (h : HS), wb_J5_resize_123 cl lm Q E x0 x1 x2 x4 s0 h → GH X G h (hQ X G h0 Q E) 123 [(0, .ref x0), (1, va_rf x1), (2, .int x2), (4, .int x4)] [.int s0] := by
  have hlm := hCl.2.1
  have hd8 := hCl.2.2.1
  have hd2 : 1 ≤ d2 := Nat.le_trans (by decide) hd8
  have hLa := hCl.2.2.2
  have hd1 : 1 ≤ d2 + 1 := Nat.le_add_left _ _
  have hC9 := hCl
  replace hCl := hCl.1
  intro x0 x1 x2 x4 s0 h hw
  unfold wb_J5_resize_123 at hw
  refine gk_istore (pc := 123) (lv' := [(5, Value.int s0), (0, Value.ref x0), (1, va_rf x1), (2, Value.int x2), (4, Value.int x4)]) C.1 dJ5_resize_123 (by rw [hXn]; decide) (by first | rfl | simp [va_rf_S, va_rf_cat, cat_i, cat_a, cat_l, cat_f, fin4_0, fin4_1, fin4_2, fin4_3]) ?_
  refine GK.sub (lv' := [(0, .ref x0), (1, va_rf x1), (2, .int x2), (4, .int x4), (5, .int s0)]) [1, 2, 3, 4, 0] rfl ?_
  exact wk_J5_resize_125 C hC9 S0 hret hXn hini hTb  _ _ _ _ _ _ hw
def wb_J5_resize_121 (cl : CT) (lm : Nat × Nat) (Q : QT) (E : ET) (x0 : Nat) (x1 : Option Nat) (x2 : Int32) (x4 : Int32) (h : HS) : Prop := wb_J5_resize_123 cl lm Q E x0 x1 x2 x4 2147483647 h
theorem wk_J5_resize_121 {X : Ev} {G : GG} {cl : CT} {lm : Nat × Nat} {Q : QT} {E : ET} {h0 : HS} {d2 : Nat} (C : HC X G RJ5 cJ5_resize (d2 + 1)) (hCl : CallsOK (ev_l X) G d2 cl ∧ hLm G lm ∧ 8 ≤ d2 ∧ LamsOK (ev_l X) G d2 cl) (S0 : HS0 X h0) (hret : (ev_h X).sig.returnType = (Option.some (Jvm.ClassFile.FieldType.array (Jvm.ClassFile.FieldType.object "java/util/HashMap$Node")))) (hXn : ev_n X = 14) (hini : True) (hTb : (ev_c X).exceptionTable.toList = []) : ∀ (x0 : Nat) (x1 : Option Nat) (x2 : Int32) (x4 : Int32) (h : HS), wb_J5_resize_121 cl lm Q E x0 x1 x2 x4 h → GH X G h (hQ X G h0 Q E) 121 [(0, .ref x0), (1, va_rf x1), (2, .int x2), (4, .int x4)] [] := by
  have hlm := hCl.2.1
  have hd8 := hCl.2.2.1
  have hd2 : 1 ≤ d2 := Nat.le_trans (by decide) hd8
  have hLa := hCl.2.2.2
  have hd1 : 1 ≤ d2 + 1 := Nat.le_add_left _ _
  have hC9 := hCl
  replace hCl := hCl.1
  intro x0 x1 x2 x4 h hw
  unfold wb_J5_resize_121 at hw
  refine gk_ldc (pc := 121) (v := 2147483647) C.1 q828 dJ5_resize_121 ?_
  refine GK.sub (lv' := [(0, .ref x0), (1, va_rf x1), (2, .int x2), (4, .int x4)]) [0, 1, 2, 3] rfl ?_
  exact wk_J5_resize_123 C hC9 S0 hret hXn hini hTb  _ _ _ _ _ _ hw
def wb_J5_resize_85 (cl : CT) (lm : Nat × Nat) (Q : QT) (E : ET) (x0 : Nat) (x1 : Option Nat) (x2 : Int32) (x4 : Int32) (x5 : Int32) (h : HS) : Prop := ((¬ x5 = 0 → (wb_J5_resize_125 cl lm Q E x0 x1 x2 x4 x5 h)) ∧ (x5 = 0 → (False)))
theorem wk_J5_resize_85 {X : Ev} {G : GG} {cl : CT} {lm : Nat × Nat} {Q : QT} {E : ET} {h0 : HS} {d2 : Nat} (C : HC X G RJ5 cJ5_resize (d2 + 1)) (hCl : CallsOK (ev_l X) G d2 cl ∧ hLm G lm ∧ 8 ≤ d2 ∧ LamsOK (ev_l X) G d2 cl) (S0 : HS0 X h0) (hret : (ev_h X).sig.returnType = (Option.some (Jvm.ClassFile.FieldType.array (Jvm.ClassFile.FieldType.object "java/util/HashMap$Node")))) (hXn : ev_n X = 14) (hini : True) (hTb : (ev_c X).exceptionTable.toList = []) : ∀ (x0 : Nat) (x1 : Option Nat) (x2 : Int32) (x4 : Int32) (x5 : Int32) (h : HS), wb_J5_resize_85 cl lm Q E x0 x1 x2 x4 x5 h → GH X G h (hQ X G h0 Q E) 85 [(0, .ref x0), (1, va_rf x1), (2, .int x2), (4, .int x4), (5, .int x5)] [] := by
  have hlm := hCl.2.1
  have hd8 := hCl.2.2.1
  have hd2 : 1 ≤ d2 := Nat.le_trans (by decide) hd8
  have hLa := hCl.2.2.2
  have hd1 : 1 ≤ d2 + 1 := Nat.le_add_left _ _
  have hC9 := hCl
  replace hCl := hCl.1
  intro x0 x1 x2 x4 x5 h hw
  unfold wb_J5_resize_85 at hw
  refine gk_iload (pc := 85) C.1 4 dJ5_resize_85 rfl ?_
  refine gk_if_ne (pc := 87) (tgt := 125) C.1 dJ5_resize_87 (by decide) (fun c_1 => ?_) (fun c_1 => ?_)
  · replace hw := hw.1 c_1
    refine GK.sub (lv' := [(0, .ref x0), (1, va_rf x1), (2, .int x2), (4, .int x4), (5, .int x5)]) [0, 1, 2, 3, 4] rfl ?_
    exact wk_J5_resize_125 C hC9 S0 hret hXn hini hTb  _ _ _ _ _ _ hw
  · replace hw := hw.2 c_1
    refine gk_iload (pc := 90) C.1 3 dJ5_resize_90 rfl ?_
    exact hw.elim
def wb_J5_resize_15 (cl : CT) (lm : Nat × Nat) (Q : QT) (E : ET) (x0 : Nat) (x1 : Option Nat) (s0 : Int32) (h : HS) : Prop := (hT h x0 = 19 ∨ hT h x0 = 20) ∧ (∀ x_1 : Int32, x_1 = hI h 65 x0 → (((s0 ≤ 0 → (((x_1 ≤ 0 → (wb_J5_resize_85 cl lm Q E x0 x1 s0 16 12 h)) ∧ (¬ x_1 ≤ 0 → (wb_J5_resize_85 cl lm Q E x0 x1 s0 x_1 0 h))))) ∧ (¬ s0 ≤ 0 → (((s0 < 1073741824 → (∀ x_5 : Int32, x_5 = s0 <<< (1 &&& 31) → (((1073741824 ≤ x_5 → (wb_J5_resize_85 cl lm Q E x0 x1 s0 x_5 0 h)) ∧ (¬ 1073741824 ≤ x_5 → (((s0 < 16 → (wb_J5_resize_85 cl lm Q E x0 x1 s0 x_5 0 h)) ∧ (¬ s0 < 16 → (∀ x_8 : Int32, x_8 = x_1 <<< (1 &&& 31) → (wb_J5_resize_85 cl lm Q E x0 x1 s0 x_5 x_8 h)))))))))) ∧ (¬ s0 < 1073741824 → ((hT h x0 = 19 ∨ hT h x0 = 20) ∧ (∀ h_9 : HS, h_9 = sI h 65 x0 2147483647 → (Q (some (va_rf x1)) h_9))))))))))
theorem wk_J5_resize_15 {X : Ev} {G : GG} {cl : CT} {lm : Nat × Nat} {Q : QT} {E : ET} {h0 : HS} {d2 : Nat} (C : HC X G RJ5 cJ5_resize (d2 + 1)) (hCl : CallsOK (ev_l X) G d2 cl ∧ hLm G lm ∧ 8 ≤ d2 ∧ LamsOK (ev_l X) G d2 cl) (S0 : HS0 X h0) (hret : (ev_h X).sig.returnType = (Option.some (Jvm.ClassFile.FieldType.array (Jvm.ClassFile.FieldType.object "java/util/HashMap$Node")))) (hXn : ev_n X = 14) (hini : True) (hTb : (ev_c X).exceptionTable.toList = []) : ∀ (x0 : Nat) (x1 : Option Nat) (s0 : Int32) (h : HS), wb_J5_resize_15 cl lm Q E x0 x1 s0 h → GH X G h (hQ X G h0 Q E) 15 [(0, .ref x0), (1, va_rf x1)] [.int s0] := by
  have hlm := hCl.2.1
  have hd8 := hCl.2.2.1
  have hd2 : 1 ≤ d2 := Nat.le_trans (by decide) hd8
  have hLa := hCl.2.2.2
  have hd1 : 1 ≤ d2 + 1 := Nat.le_add_left _ _
  have hC9 := hCl
  replace hCl := hCl.1
  intro x0 x1 s0 h hw
  unfold wb_J5_resize_15 at hw
  refine gk_istore_n (pc := 15) (lv' := [(2, Value.int s0), (0, Value.ref x0), (1, va_rf x1)]) C.1 dJ5_resize_15 rfl (by rw [hXn]; decide) (by first | rfl | simp [va_rf_S, va_rf_cat, cat_i, cat_a, cat_l, cat_f, fin4_0, fin4_1, fin4_2, fin4_3]) ?_
  refine gk_aload_n (pc := 16) C.1 1 dJ5_resize_16 rfl rfl ?_
  obtain ⟨ht, hw⟩ := hw
  refine gf_J5_88 (pc := 17) C ht dJ5_resize_17 ?_
  obtain ⟨x_1, ex_1⟩ : ∃ z : Int32, z = hI h 65 x0 := ⟨_, rfl⟩
  rw [← ex_1]
  replace hw := hw x_1 ex_1
  refine gk_istore_n (pc := 20) (lv' := [(3, Value.int x_1), (2, Value.int s0), (0, Value.ref x0), (1, va_rf x1)]) C.1 dJ5_resize_20 rfl (by rw [hXn]; decide) (by first | rfl | simp [va_rf_S, va_rf_cat, cat_i, cat_a, cat_l, cat_f, fin4_0, fin4_1, fin4_2, fin4_3]) ?_
  refine gk_iconst (pc := 21) (v := 0) C.1 dJ5_resize_21 (by decide) ?_
  refine gk_istore (pc := 22) (lv' := [(5, Value.int 0), (3, Value.int x_1), (2, Value.int s0), (0, Value.ref x0), (1, va_rf x1)]) C.1 dJ5_resize_22 (by rw [hXn]; decide) (by first | rfl | simp [va_rf_S, va_rf_cat, cat_i, cat_a, cat_l, cat_f, fin4_0, fin4_1, fin4_2, fin4_3]) ?_
  refine gk_iload_n (pc := 24) C.1 2 dJ5_resize_24 rfl rfl ?_
  refine gk_if_le (pc := 25) (tgt := 67) C.1 dJ5_resize_25 (by decide) (fun c_2 => ?_) (fun c_2 => ?_)
  · replace hw := hw.1 c_2
    refine gk_iload_n (pc := 67) C.1 1 dJ5_resize_67 rfl rfl ?_
    refine gk_if_le (pc := 68) (tgt := 77) C.1 dJ5_resize_68 (by decide) (fun c_3 => ?_) (fun c_3 => ?_)
    · replace hw := hw.1 c_3
      refine gk_bipush (pc := 77) (v := 16) C.1 dJ5_resize_77 (by decide) ?_
      refine gk_istore (pc := 79) (lv' := [(4, Value.int 16), (5, Value.int 0), (3, Value.int x_1), (2, Value.int s0), (0, Value.ref x0), (1, va_rf x1)]) C.1 dJ5_resize_79 (by rw [hXn]; decide) (by first | rfl | simp [va_rf_S, va_rf_cat, cat_i, cat_a, cat_l, cat_f, fin4_0, fin4_1, fin4_2, fin4_3]) ?_
      refine gk_bipush (pc := 81) (v := 12) C.1 dJ5_resize_81 (by decide) ?_
      refine gk_istore (pc := 83) (lv' := [(5, Value.int 12), (4, Value.int 16), (3, Value.int x_1), (2, Value.int s0), (0, Value.ref x0), (1, va_rf x1)]) C.1 dJ5_resize_83 (by rw [hXn]; decide) (by first | rfl | simp [va_rf_S, va_rf_cat, cat_i, cat_a, cat_l, cat_f, fin4_0, fin4_1, fin4_2, fin4_3]) ?_
      refine GK.sub (lv' := [(0, .ref x0), (1, va_rf x1), (2, .int s0), (4, .int 16), (5, .int 12)]) [4, 5, 3, 1, 0] rfl ?_
      exact wk_J5_resize_85 C hC9 S0 hret hXn hini hTb  _ _ _ _ _ _ hw
    · replace hw := hw.2 c_3
      refine gk_iload_n (pc := 71) C.1 1 dJ5_resize_71 rfl rfl ?_
      refine gk_istore (pc := 72) (lv' := [(4, Value.int x_1), (5, Value.int 0), (3, Value.int x_1), (2, Value.int s0), (0, Value.ref x0), (1, va_rf x1)]) C.1 dJ5_resize_72 (by rw [hXn]; decide) (by first | rfl | simp [va_rf_S, va_rf_cat, cat_i, cat_a, cat_l, cat_f, fin4_0, fin4_1, fin4_2, fin4_3]) ?_
      refine gk_goto (pc := 74) (tgt := 85) C.1 dJ5_resize_74 (by decide) ?_
      refine GK.sub (lv' := [(0, .ref x0), (1, va_rf x1), (2, .int s0), (4, .int x_1), (5, .int 0)]) [4, 5, 3, 0, 1] rfl ?_
      exact wk_J5_resize_85 C hC9 S0 hret hXn hini hTb  _ _ _ _ _ _ hw
  · replace hw := hw.2 c_2
    refine gk_iload_n (pc := 28) C.1 2 dJ5_resize_28 rfl rfl ?_
    refine gk_ldc (pc := 29) (v := 1073741824) C.1 q827 dJ5_resize_29 ?_
    refine gk_icmp_lt (pc := 31) (tgt := 42) C.1 dJ5_resize_31 (by decide) (fun c_4 => ?_) (fun c_4 => ?_)
    · replace hw := hw.1 c_4
      refine gk_iload_n (pc := 42) C.1 2 dJ5_resize_42 rfl rfl ?_
      refine gk_iconst (pc := 43) (v := 1) C.1 dJ5_resize_43 (by decide) ?_
      refine gk_ishl (pc := 44) C.1 dJ5_resize_44 ?_
      refine gk_dup (pc := 45) C.1 dJ5_resize_45 rfl ?_
      obtain ⟨x_5, ex_5⟩ : ∃ z : Int32, z = s0 <<< (1 &&& 31) := ⟨_, rfl⟩
      rw [← ex_5]
      replace hw := hw x_5 ex_5
      refine gk_istore (pc := 46) (lv' := [(4, Value.int x_5), (5, Value.int 0), (3, Value.int x_1), (2, Value.int s0), (0, Value.ref x0), (1, va_rf x1)]) C.1 dJ5_resize_46 (by rw [hXn]; decide) (by first | rfl | simp [va_rf_S, va_rf_cat, cat_i, cat_a, cat_l, cat_f, fin4_0, fin4_1, fin4_2, fin4_3]) ?_
      refine gk_ldc (pc := 48) (v := 1073741824) C.1 q827 dJ5_resize_48 ?_
      refine gk_icmp_ge (pc := 50) (tgt := 85) C.1 dJ5_resize_50 (by decide) (fun c_6 => ?_) (fun c_6 => ?_)
      · replace hw := hw.1 c_6
        refine GK.sub (lv' := [(0, .ref x0), (1, va_rf x1), (2, .int s0), (4, .int x_5), (5, .int 0)]) [4, 5, 3, 0, 1] rfl ?_
        exact wk_J5_resize_85 C hC9 S0 hret hXn hini hTb  _ _ _ _ _ _ hw
      · replace hw := hw.2 c_6
        refine gk_iload_n (pc := 53) C.1 3 dJ5_resize_53 rfl rfl ?_
        refine gk_bipush (pc := 54) (v := 16) C.1 dJ5_resize_54 (by decide) ?_
        refine gk_icmp_lt (pc := 56) (tgt := 85) C.1 dJ5_resize_56 (by decide) (fun c_7 => ?_) (fun c_7 => ?_)
        · replace hw := hw.1 c_7
          refine GK.sub (lv' := [(0, .ref x0), (1, va_rf x1), (2, .int s0), (4, .int x_5), (5, .int 0)]) [4, 5, 3, 0, 1] rfl ?_
          exact wk_J5_resize_85 C hC9 S0 hret hXn hini hTb  _ _ _ _ _ _ hw
        · replace hw := hw.2 c_7
          refine gk_iload_n (pc := 59) C.1 2 dJ5_resize_59 rfl rfl ?_
          refine gk_iconst (pc := 60) (v := 1) C.1 dJ5_resize_60 (by decide) ?_
          refine gk_ishl (pc := 61) C.1 dJ5_resize_61 ?_
          obtain ⟨x_8, ex_8⟩ : ∃ z : Int32, z = x_1 <<< (1 &&& 31) := ⟨_, rfl⟩
          rw [← ex_8]
          replace hw := hw x_8 ex_8
          refine gk_istore (pc := 62) (lv' := [(5, Value.int x_8), (4, Value.int x_5), (3, Value.int x_1), (2, Value.int s0), (0, Value.ref x0), (1, va_rf x1)]) C.1 dJ5_resize_62 (by rw [hXn]; decide) (by first | rfl | simp [va_rf_S, va_rf_cat, cat_i, cat_a, cat_l, cat_f, fin4_0, fin4_1, fin4_2, fin4_3]) ?_
          refine gk_goto (pc := 64) (tgt := 85) C.1 dJ5_resize_64 (by decide) ?_
          refine GK.sub (lv' := [(0, .ref x0), (1, va_rf x1), (2, .int s0), (4, .int x_5), (5, .int x_8)]) [4, 5, 3, 1, 0] rfl ?_
          exact wk_J5_resize_85 C hC9 S0 hret hXn hini hTb  _ _ _ _ _ _ hw
    · replace hw := hw.2 c_4
      refine gk_aload_n (pc := 34) C.1 3 dJ5_resize_34 rfl rfl ?_
      refine gk_ldc (pc := 35) (v := 2147483647) C.1 q828 dJ5_resize_35 ?_
      obtain ⟨ht, hw⟩ := hw
      refine gfp_J5_88 (pc := 37) C ht dJ5_resize_37 (fun h_9 eh_9 => ?_)
      replace hw := hw h_9 eh_9
      refine gk_qload_n (pc := 40) C.1 4 dJ5_resize_40 rfl rfl ?_
      exact gh_aret (pc := 41) (r := x1) C S0 hret (Or.inr ⟨_, rfl⟩) dJ5_resize_41 hw
def wb_J5_resize (cl : CT) (lm : Nat × Nat) (Q : QT) (E : ET) (x0 : Nat) (h : HS) : Prop := (hT h x0 = 19 ∨ hT h x0 = 20) ∧ (∀ r_1 : Option Nat, r_1 = hR h 61 x0 → ((r_1 = none → (wb_J5_resize_15 cl lm Q E x0 none 0 h)) ∧ (∀ a_3 : Nat, r_1 = some a_3 → (hT h a_3 = 116 ∧ (wb_J5_resize_15 cl lm Q E x0 (some a_3) (nI (hN h a_3)) h)))))
theorem wx_J5_resize {l : Launch} (hst : l.stackTraces = false) {G : GG} {cl : CT} {lm : Nat × Nat} {Q : QT} {E : ET} {d2 : Nat} (hCl : CallsOK l G d2 cl ∧ hLm G lm ∧ 8 ≤ d2 ∧ LamsOK l G d2 cl) {x0 : Nat} {h : HS} (hw : wb_J5_resize cl lm Q E x0 h) : HMet l G yJ5_resize (ws_ yJ5_resize cJ5_resize 14 ((Option.some (Jvm.ClassFile.FieldType.array (Jvm.ClassFile.FieldType.object "java/util/HashMap$Node"))))) (d2 + 1) [.ref x0] h Q E := by
  refine gh_met (own := RJ5) rfl (by decide +kernel) hst (by simp only [lg_sl_i, lg_sl_r, lg_sl_a, lg_sl_2, lg_sl_f, lg_sl_0]; decide) (fun X hXl hXn hret hnm hTb h0 eh C S0 => ?_)
  subst hXl
  have hlm := hCl.2.1
  have hd8 := hCl.2.2.1
  have hd2 : 1 ≤ d2 := Nat.le_trans (by decide) hd8
  have hLa := hCl.2.2.2
  have hd1 : 1 ≤ d2 + 1 := Nat.le_add_left _ _
  have hC9 := hCl
  replace hCl := hCl.1
  have hini : True := trivial
  unfold wb_J5_resize at hw
  refine GK.sub (lv' := [(0, .ref x0)]) [0] (by simp only [lv_args_i, lv_args_r, lv_args_a, lv_args_l, lv_args_f, lv_args_0]; rfl) ?_
  refine gk_aload_n (pc := 0) C.1 0 dJ5_resize_0 rfl rfl ?_
  obtain ⟨ht, hw⟩ := hw
  refine gf_J5_105 (pc := 1) C ht dJ5_resize_1 (fun r_1 er_1 => ?_)
  replace hw := hw r_1 er_1
  refine gk_qstore_n (pc := 4) (lv' := [(1, va_rf r_1), (0, Value.ref x0)]) C.1 dJ5_resize_4 rfl (by rw [hXn]; decide) (by first | rfl | simp [va_rf_S, va_rf_cat, cat_i, cat_a, cat_l, cat_f, fin4_0, fin4_1, fin4_2, fin4_3]) ?_
  refine gk_qload_n (pc := 5) C.1 0 dJ5_resize_5 rfl rfl ?_
  refine gk_ifnonnull (pc := 6) (tgt := 13) C.1 dJ5_resize_6 (by decide) (fun c_2 => ?_) (fun c_2 => ?_)
  · obtain ⟨a_3, c_2⟩ := Option.ne_none_iff_exists'.mp c_2
    replace hw := hw.2 a_3 c_2
    subst c_2
    refine gk_aload_n (pc := 13) C.1 0 dJ5_resize_13 rfl rfl ?_
    obtain ⟨ht, hw⟩ := hw
    refine gh_len (pc := 14) (t0 := 8) (ty := tyA 116) C ht (by decide) rfl dJ5_resize_14 ?_
    refine GK.sub (lv' := [(0, .ref x0), (1, va_rf (some a_3))]) [1, 0] rfl ?_
    exact wk_J5_resize_15 C hC9 S0 hret hXn hini hTb  _ _ _ _ hw
  · replace hw := hw.1 c_2
    subst c_2
    refine gk_iconst (pc := 9) (v := 0) C.1 dJ5_resize_9 (by decide) ?_
    refine gk_goto (pc := 10) (tgt := 15) C.1 dJ5_resize_10 (by decide) ?_
    refine GK.sub (lv' := [(0, .ref x0), (1, va_rf none)]) [1, 0] rfl ?_
    exact wk_J5_resize_15 C hC9 S0 hret hXn hini hTb  _ _ _ _ hw
/-! 12: java/util/HashMap.size()I -/
def wb_J5_size (cl : CT) (lm : Nat × Nat) (Q : QT) (E : ET) (x0 : Nat) (h : HS) : Prop := (hT h x0 = 19 ∨ hT h x0 = 20) ∧ (Q (some (.int (hI h 63 x0))) h)
theorem wx_J5_size {l : Launch} (hst : l.stackTraces = false) {G : GG} {cl : CT} {lm : Nat × Nat} {Q : QT} {E : ET} {d2 : Nat} (hCl : CallsOK l G d2 cl ∧ hLm G lm ∧ 8 ≤ d2 ∧ LamsOK l G d2 cl) {x0 : Nat} {h : HS} (hw : wb_J5_size cl lm Q E x0 h) : HMet l G yJ5_size (ws_ yJ5_size cJ5_size 1 ((Option.some Jvm.ClassFile.FieldType.int))) (d2 + 1) [.ref x0] h Q E := by
  refine gh_met (own := RJ5) rfl (by decide +kernel) hst (by simp only [lg_sl_i, lg_sl_r, lg_sl_a, lg_sl_2, lg_sl_f, lg_sl_0]; decide) (fun X hXl hXn hret hnm hTb h0 eh C S0 => ?_)
  subst hXl
  have hlm := hCl.2.1
  have hd8 := hCl.2.2.1
  have hd2 : 1 ≤ d2 := Nat.le_trans (by decide) hd8
  have hLa := hCl.2.2.2
  have hd1 : 1 ≤ d2 + 1 := Nat.le_add_left _ _
  have hC9 := hCl
  replace hCl := hCl.1
  have hini : True := trivial
  unfold wb_J5_size at hw
  refine GK.sub (lv' := [(0, .ref x0)]) [0] (by simp only [lv_args_i, lv_args_r, lv_args_a, lv_args_l, lv_args_f, lv_args_0]; rfl) ?_
  refine gk_aload_n (pc := 0) C.1 0 dJ5_size_0 rfl rfl ?_
  obtain ⟨ht, hw⟩ := hw
  refine gf_J5_156 (pc := 1) C ht dJ5_size_1 ?_
  exact gh_iret (pc := 4) C S0 hret dJ5_size_4 hw
/-! 13: java/util/HashMap.treeifyBin([Ljava/util/HashMap$Node;I)V -/
def wb_J5_treeifyBin_13 (cl : CT) (lm : Nat × Nat) (Q : QT) (E : ET) (x0 : Nat) (h : HS) : Prop := dp_HashMap_resize cl x0 [] h (gR (fun r_2 h_1 => Q none h_1)) E
theorem wk_J5_treeifyBin_13 {X : Ev} {G : GG} {cl : CT} {lm : Nat × Nat} {Q : QT} {E : ET} {h0 : HS} {d2 : Nat} (C : HC X G RJ5 cJ5_treeifyBin (d2 + 1)) (hCl : CallsOK (ev_l X) G d2 cl ∧ hLm G lm ∧ 8 ≤ d2 ∧ LamsOK (ev_l X) G d2 cl) (S0 : HS0 X h0) (hret : (ev_h X).sig.returnType = (Option.none : Option Jvm.ClassFile.FieldType)) (hXn : ev_n X = 9) (hini : True) (hTb : (ev_c X).exceptionTable.toList = []) : ∀ (x0 : Nat) (h : HS), wb_J5_treeifyBin_13 cl lm Q E x0 h → GH X G h (hQ X G h0 Q E) 13 [(0, .ref x0)] [] := by
  have hlm := hCl.2.1
  have hd8 := hCl.2.2.1
  have hd2 : 1 ≤ d2 := Nat.le_trans (by decide) hd8
  have hLa := hCl.2.2.2
  have hd1 : 1 ≤ d2 + 1 := Nat.le_add_left _ _
  have hC9 := hCl
  replace hCl := hCl.1
  intro x0 h hw
  unfold wb_J5_treeifyBin_13 at hw
  refine gk_aload_n (pc := 13) C.1 0 dJ5_treeifyBin_13 rfl rfl ?_
  refine gc_J5_117 (pc := 14) (As := []) (rest := []) C hCl (Nat.le_refl _) hw rfl rfl (Nat.le_of_ble_eq_true rfl) dJ5_treeifyBin_14 (fun v9 h_1 hp => ?_) (fun q_3 h_4 hw ht9 => ?_)
  rotate_left
  · exact gx_out C S0 (by rw [hTb]; decide) ht9 hw
  clear hw
  obtain ⟨r_2, rfl, hw⟩ := hp
  refine GK.at (p2 := 17) rfl ?_
  refine gk_pop (pc := 17) C.1 dJ5_treeifyBin_17 (va_rf_cat _) ?_
  refine gk_goto (pc := 18) (tgt := 109) C.1 dJ5_treeifyBin_18 (by decide) ?_
  exact gh_vret (pc := 109) C S0 hret dJ5_treeifyBin_109 hw
def wb_J5_treeifyBin_78 (cl : CT) (lm : Nat × Nat) (Q : QT) (E : ET) (J43 : Nat → Option Nat → Int32 → Option Nat → Option Nat → Option Nat → HS → Prop) (x0 : Nat) (x1 : Option Nat) (x4 : Int32) (x5 : Option Nat) (x6 : Option Nat) (x8 : Option Nat) (h : HS) : Prop := ∃ a_1 : Nat, x5 = some a_1 ∧ ((hT h a_1 = 21 ∨ hT h a_1 = 22) ∧ (∀ r_2 : Option Nat, r_2 = hR h 74 a_1 → ((r_2 = none → (∃ a_5 : Nat, x1 = some a_5 ∧ (hT h a_5 = 116 ∧ (vp_in x4 (hN h a_5) ∧ (as_J9 h x6 ∧ (∀ h_6 : HS, h_6 = sB h a_5 x4.toNatClampNeg x6 → ((x6 = none → (Q none h_6)) ∧ (∀ a_8 : Nat, x6 = some a_8 → (False))))))))) ∧ (∀ a_4 : Nat, r_2 = some a_4 → (J43 x0 x1 x4 (some a_4) x6 x8 h)))))
theorem wk_J5_treeifyBin_78 {X : Ev} {G : GG} {cl : CT} {lm : Nat × Nat} {Q : QT} {E : ET} {h0 : HS} {d2 : Nat} {J43 : Nat → Option Nat → Int32 → Option Nat → Option Nat → Option Nat → HS → Prop} (C : HC X G RJ5 cJ5_treeifyBin (d2 + 1)) (hCl : CallsOK (ev_l X) G d2 cl ∧ hLm G lm ∧ 8 ≤ d2 ∧ LamsOK (ev_l X) G d2 cl) (S0 : HS0 X h0) (hret : (ev_h X).sig.returnType = (Option.none : Option Jvm.ClassFile.FieldType)) (hXn : ev_n X = 9) (hini : True) (hTb : (ev_c X).exceptionTable.toList = []) (hJ43 : ∀ (x0 : Nat) (x1 : Option Nat) (x4 : Int32) (x5 : Option Nat) (x6 : Option Nat) (x7 : Option Nat) (h : HS), J43 x0 x1 x4 x5 x6 x7 h → GH X G h (hQ X G h0 Q E) 43 [(0, .ref x0), (1, va_rf x1), (4, .int x4), (5, va_rf x5), (6, va_rf x6), (7, va_rf x7)] []) : ∀ (x0 : Nat) (x1 : Option Nat) (x4 : Int32) (x5 : Option Nat) (x6 : Option Nat) (x8 : Option Nat) (h : HS), wb_J5_treeifyBin_78 cl lm Q E J43 x0 x1 x4 x5 x6 x8 h → GH X G h (hQ X G h0 Q E) 78 [(0, .ref x0), (1, va_rf x1), (4, .int x4), (5, va_rf x5), (6, va_rf x6), (8, va_rf x8)] [] := by
  have hlm := hCl.2.1
  have hd8 := hCl.2.2.1
  have hd2 : 1 ≤ d2 := Nat.le_trans (by decide) hd8
  have hLa := hCl.2.2.2
  have hd1 : 1 ≤ d2 + 1 := Nat.le_add_left _ _
  have hC9 := hCl
  replace hCl := hCl.1
  intro x0 x1 x4 x5 x6 x8 h hw
  unfold wb_J5_treeifyBin_78 at hw
  refine gk_qload (pc := 78) C.1 5 dJ5_treeifyBin_78 rfl ?_
  refine gk_qstore (pc := 80) (lv' := [(7, va_rf x8), (0, Value.ref x0), (1, va_rf x1), (4, Value.int x4), (5, va_rf x5), (6, va_rf x6), (8, va_rf x8)]) C.1 dJ5_treeifyBin_80 (by rw [hXn]; decide) (by first | rfl | simp [va_rf_S, va_rf_cat, cat_i, cat_a, cat_l, cat_f, fin4_0, fin4_1, fin4_2, fin4_3]) ?_
  refine gk_qload (pc := 82) C.1 4 dJ5_treeifyBin_82 rfl ?_
  obtain ⟨a_1, rfl, hw⟩ := hw
  obtain ⟨ht, hw⟩ := hw
  refine gf_J5_177 (pc := 84) C ht dJ5_treeifyBin_84 (fun r_2 er_2 => ?_)
  replace hw := hw r_2 er_2
  refine gk_dup (pc := 87) C.1 dJ5_treeifyBin_87 (va_rf_cat _) ?_
  refine gk_qstore (pc := 88) (lv' := [(5, va_rf r_2), (7, va_rf x8), (0, Value.ref x0), (1, va_rf x1), (4, Value.int x4), (6, va_rf x6), (8, va_rf x8)]) C.1 dJ5_treeifyBin_88 (by rw [hXn]; decide) (by first | rfl | simp [va_rf_S, va_rf_cat, cat_i, cat_a, cat_l, cat_f, fin4_0, fin4_1, fin4_2, fin4_3]) ?_
  refine gk_ifnonnull (pc := 90) (tgt := 43) C.1 dJ5_treeifyBin_90 (by decide) (fun c_3 => ?_) (fun c_3 => ?_)
  · obtain ⟨a_4, c_3⟩ := Option.ne_none_iff_exists'.mp c_3
    replace hw := hw.2 a_4 c_3
    subst c_3
    refine GK.sub (lv' := [(0, .ref x0), (1, va_rf x1), (4, .int x4), (5, va_rf (some a_4)), (6, va_rf x6), (7, va_rf x8)]) [2, 3, 4, 0, 5, 1] rfl ?_
    exact hJ43 _ _ _ _ _ _ _ hw
  · replace hw := hw.1 c_3
    subst c_3
    refine gk_qload_n (pc := 93) C.1 3 dJ5_treeifyBin_93 rfl rfl ?_
    refine gk_iload (pc := 94) C.1 4 dJ5_treeifyBin_94 rfl ?_
    refine gk_qload (pc := 96) C.1 5 dJ5_treeifyBin_96 rfl ?_
    refine gk_dup_x2 (pc := 98) C.1 dJ5_treeifyBin_98 (va_rf_cat _) rfl (va_rf_cat _) ?_
    obtain ⟨a_5, rfl, hw⟩ := hw
    obtain ⟨ht, hi, hs, hw⟩ := hw
    refine gh_aast (pc := 99) (r := x6) (t0 := 8) (E := "java/util/HashMap$Node") C ht (by decide) (by decide) rfl (as_J9_ok hs) hi dJ5_treeifyBin_99 ?_
    obtain ⟨h_6, eh_6⟩ : ∃ z : HS, z = sB h a_5 x4.toNatClampNeg x6 := ⟨_, rfl⟩
    rw [← eh_6]
    replace hw := hw h_6 eh_6
    refine gk_ifnull (pc := 100) (tgt := 109) C.1 dJ5_treeifyBin_100 (by decide) (fun c_7 => ?_) (fun c_7 => ?_)
    · replace hw := hw.1 c_7
      subst c_7
      exact gh_vret (pc := 109) C S0 hret dJ5_treeifyBin_109 hw
    · obtain ⟨a_8, c_7⟩ := Option.ne_none_iff_exists'.mp c_7
      replace hw := hw.2 a_8 c_7
      subst c_7
      refine gk_aload (pc := 103) C.1 5 dJ5_treeifyBin_103 rfl ?_
      refine gk_aload_n (pc := 105) C.1 3 dJ5_treeifyBin_105 rfl rfl ?_
      exact hw.elim
def wb_J5_treeifyBin_43 (cl : CT) (lm : Nat × Nat) (Q : QT) (E : ET) : Nat → Nat → Option Nat → Int32 → Option Nat → Option Nat → Option Nat → HS → Prop
  | 0 => fun _ _ _ _ _ _ _ => False
  | n + 1 => fun x0 x1 x4 x5 x6 x7 h => False
theorem wk_J5_treeifyBin_43 {X : Ev} {G : GG} {cl : CT} {lm : Nat × Nat} {Q : QT} {E : ET} {h0 : HS} {d2 : Nat} (C : HC X G RJ5 cJ5_treeifyBin (d2 + 1)) (hCl : CallsOK (ev_l X) G d2 cl ∧ hLm G lm ∧ 8 ≤ d2 ∧ LamsOK (ev_l X) G d2 cl) (S0 : HS0 X h0) (hret : (ev_h X).sig.returnType = (Option.none : Option Jvm.ClassFile.FieldType)) (hXn : ev_n X = 9) (hini : True) (hTb : (ev_c X).exceptionTable.toList = []) : ∀ (n : Nat) (x0 : Nat) (x1 : Option Nat) (x4 : Int32) (x5 : Option Nat) (x6 : Option Nat) (x7 : Option Nat) (h : HS), wb_J5_treeifyBin_43 cl lm Q E n x0 x1 x4 x5 x6 x7 h → GH X G h (hQ X G h0 Q E) 43 [(0, .ref x0), (1, va_rf x1), (4, .int x4), (5, va_rf x5), (6, va_rf x6), (7, va_rf x7)] [] := by
  have hlm := hCl.2.1
  have hd8 := hCl.2.2.1
  have hd2 : 1 ≤ d2 := Nat.le_trans (by decide) hd8
  have hLa := hCl.2.2.2
  have hd1 : 1 ≤ d2 + 1 := Nat.le_add_left _ _
  have hC9 := hCl
  replace hCl := hCl.1
  intro n
  induction n with
  | zero => intro x0 x1 x4 x5 x6 x7 h hw; exact hw.elim
  | succ n ih =>
  intro x0 x1 x4 x5 x6 x7 h hw
  unfold wb_J5_treeifyBin_43 at hw
  refine gk_aload_n (pc := 43) C.1 0 dJ5_treeifyBin_43 rfl rfl ?_
  refine gk_qload (pc := 44) C.1 3 dJ5_treeifyBin_44 rfl ?_
  refine gk_null (pc := 46) C.1 dJ5_treeifyBin_46 ?_
  exact hw.elim
def wb_J5_treeifyBin (cl : CT) (lm : Nat × Nat) (Q : QT) (E : ET) (x0 : Nat) (x1 : Option Nat) (x2 : Int32) (h : HS) : Prop := (x1 = none → (wb_J5_treeifyBin_13 cl lm Q E x0 h)) ∧ (∀ a_2 : Nat, x1 = some a_2 → (hT h a_2 = 116 ∧ (∀ x_3 : Int32, x_3 = nI (hN h a_2) → (((64 ≤ x_3 → (∀ x_5 : Int32, x_5 = (x_3 - 1) &&& x2 → (hT h a_2 = 116 ∧ (vp_in x_5 (hN h a_2) ∧ (∀ r_6 : Option Nat, r_6 = hB h a_2 x_5.toNatClampNeg → ((r_6 = none → (Q none h)) ∧ (∀ a_8 : Nat, r_6 = some a_8 → (∃ fu : Nat, wb_J5_treeifyBin_43 cl lm Q E fu x0 (some a_2) x_5 (some a_8) none none h)))))))) ∧ (¬ 64 ≤ x_3 → (wb_J5_treeifyBin_13 cl lm Q E x0 h)))))))
theorem wx_J5_treeifyBin {l : Launch} (hst : l.stackTraces = false) {G : GG} {cl : CT} {lm : Nat × Nat} {Q : QT} {E : ET} {d2 : Nat} (hCl : CallsOK l G d2 cl ∧ hLm G lm ∧ 8 ≤ d2 ∧ LamsOK l G d2 cl) {x0 : Nat} {x1 : Option Nat} {x2 : Int32} {h : HS} (hw : wb_J5_treeifyBin cl lm Q E x0 x1 x2 h) : HMet l G yJ5_treeifyBin (ws_ yJ5_treeifyBin cJ5_treeifyBin 9 ((Option.none : Option Jvm.ClassFile.FieldType))) (d2 + 1) [.ref x0, va_rf x1, .int x2] h Q E := by
  refine gh_met (own := RJ5) rfl (by decide +kernel) hst (by simp only [lg_sl_i, lg_sl_r, lg_sl_a, lg_sl_2, lg_sl_f, lg_sl_0]; decide) (fun X hXl hXn hret hnm hTb h0 eh C S0 => ?_)
  subst hXl
  have hlm := hCl.2.1
  have hd8 := hCl.2.2.1
  have hd2 : 1 ≤ d2 := Nat.le_trans (by decide) hd8
  have hLa := hCl.2.2.2
  have hd1 : 1 ≤ d2 + 1 := Nat.le_add_left _ _
  have hC9 := hCl
  replace hCl := hCl.1
  have hini : True := trivial
  unfold wb_J5_treeifyBin at hw
  refine GK.sub (lv' := [(0, .ref x0), (1, va_rf x1), (2, .int x2)]) [0, 1, 2] (by simp only [lv_args_i, lv_args_r, lv_args_a, lv_args_l, lv_args_f, lv_args_0]; rfl) ?_
  refine gk_qload_n (pc := 0) C.1 1 dJ5_treeifyBin_0 rfl rfl ?_
  refine gk_ifnull (pc := 1) (tgt := 13) C.1 dJ5_treeifyBin_1 (by decide) (fun c_1 => ?_) (fun c_1 => ?_)
  · replace hw := hw.1 c_1
    subst c_1
    refine GK.sub (lv' := [(0, .ref x0)]) [0] rfl ?_
    exact wk_J5_treeifyBin_13 C hC9 S0 hret hXn hini hTb  _ _ hw
  · obtain ⟨a_2, c_1⟩ := Option.ne_none_iff_exists'.mp c_1
    replace hw := hw.2 a_2 c_1
    subst c_1
    refine gk_aload_n (pc := 4) C.1 1 dJ5_treeifyBin_4 rfl rfl ?_
    obtain ⟨ht, hw⟩ := hw
    refine gh_len (pc := 5) (t0 := 8) (ty := tyA 116) C ht (by decide) rfl dJ5_treeifyBin_5 ?_
    refine gk_dup (pc := 6) C.1 dJ5_treeifyBin_6 rfl ?_
    obtain ⟨x_3, ex_3⟩ : ∃ z : Int32, z = nI (hN h a_2) := ⟨_, rfl⟩
    rw [← ex_3]
    replace hw := hw x_3 ex_3
    refine gk_istore_n (pc := 7) (lv' := [(3, Value.int x_3), (0, Value.ref x0), (1, Value.ref a_2), (2, Value.int x2)]) C.1 dJ5_treeifyBin_7 rfl (by rw [hXn]; decide) (by first | rfl | simp [va_rf_S, va_rf_cat, cat_i, cat_a, cat_l, cat_f, fin4_0, fin4_1, fin4_2, fin4_3]) ?_
    refine gk_bipush (pc := 8) (v := 64) C.1 dJ5_treeifyBin_8 (by decide) ?_
    refine gk_icmp_ge (pc := 10) (tgt := 21) C.1 dJ5_treeifyBin_10 (by decide) (fun c_4 => ?_) (fun c_4 => ?_)
    · replace hw := hw.1 c_4
      refine gk_aload_n (pc := 21) C.1 2 dJ5_treeifyBin_21 rfl rfl ?_
      refine gk_iload_n (pc := 22) C.1 0 dJ5_treeifyBin_22 rfl rfl ?_
      refine gk_iconst (pc := 23) (v := 1) C.1 dJ5_treeifyBin_23 (by decide) ?_
      refine gk_isub (pc := 24) C.1 dJ5_treeifyBin_24 ?_
      refine gk_iload_n (pc := 25) C.1 3 dJ5_treeifyBin_25 rfl rfl ?_
      refine gk_iand (pc := 26) C.1 dJ5_treeifyBin_26 ?_
      refine gk_dup (pc := 27) C.1 dJ5_treeifyBin_27 rfl ?_
      obtain ⟨x_5, ex_5⟩ : ∃ z : Int32, z = (x_3 - 1) &&& x2 := ⟨_, rfl⟩
      rw [← ex_5]
      replace hw := hw x_5 ex_5
      refine gk_istore (pc := 28) (lv' := [(4, Value.int x_5), (3, Value.int x_3), (0, Value.ref x0), (1, Value.ref a_2), (2, Value.int x2)]) C.1 dJ5_treeifyBin_28 (by rw [hXn]; decide) (by first | rfl | simp [va_rf_S, va_rf_cat, cat_i, cat_a, cat_l, cat_f, fin4_0, fin4_1, fin4_2, fin4_3]) ?_
      obtain ⟨ht, hi, hw⟩ := hw
      refine gh_aald (pc := 30) (t0 := 8) (E := "java/util/HashMap$Node") C ht (by decide) (by decide) rfl hi dJ5_treeifyBin_30 ?_
      obtain ⟨r_6, er_6⟩ : ∃ z : Option Nat, z = hB h a_2 x_5.toNatClampNeg := ⟨_, rfl⟩
      rw [← er_6]
      replace hw := hw r_6 er_6
      refine gk_dup (pc := 31) C.1 dJ5_treeifyBin_31 (va_rf_cat _) ?_
      refine gk_qstore (pc := 32) (lv' := [(5, va_rf r_6), (4, Value.int x_5), (3, Value.int x_3), (0, Value.ref x0), (1, Value.ref a_2), (2, Value.int x2)]) C.1 dJ5_treeifyBin_32 (by rw [hXn]; decide) (by first | rfl | simp [va_rf_S, va_rf_cat, cat_i, cat_a, cat_l, cat_f, fin4_0, fin4_1, fin4_2, fin4_3]) ?_
      refine gk_ifnull (pc := 34) (tgt := 109) C.1 dJ5_treeifyBin_34 (by decide) (fun c_7 => ?_) (fun c_7 => ?_)
      · replace hw := hw.1 c_7
        subst c_7
        exact gh_vret (pc := 109) C S0 hret dJ5_treeifyBin_109 hw
      · obtain ⟨a_8, c_7⟩ := Option.ne_none_iff_exists'.mp c_7
        replace hw := hw.2 a_8 c_7
        subst c_7
        refine gk_null (pc := 37) C.1 dJ5_treeifyBin_37 ?_
        refine gk_qstore (pc := 38) (x := none) (lv' := [(6, va_rf none), (5, Value.ref a_8), (4, Value.int x_5), (3, Value.int x_3), (0, Value.ref x0), (1, Value.ref a_2), (2, Value.int x2)]) C.1 dJ5_treeifyBin_38 (by rw [hXn]; decide) (by first | rfl | simp [va_rf_S, va_rf_cat, cat_i, cat_a, cat_l, cat_f, fin4_0, fin4_1, fin4_2, fin4_3]) ?_
        refine gk_null (pc := 40) C.1 dJ5_treeifyBin_40 ?_
        refine gk_qstore (pc := 41) (x := none) (lv' := [(7, va_rf none), (6, va_rf none), (5, Value.ref a_8), (4, Value.int x_5), (3, Value.int x_3), (0, Value.ref x0), (1, Value.ref a_2), (2, Value.int x2)]) C.1 dJ5_treeifyBin_41 (by rw [hXn]; decide) (by first | rfl | simp [va_rf_S, va_rf_cat, cat_i, cat_a, cat_l, cat_f, fin4_0, fin4_1, fin4_2, fin4_3]) ?_
        refine GK.sub (lv' := [(0, .ref x0), (1, va_rf (some a_2)), (4, .int x_5), (5, va_rf (some a_8)), (6, va_rf none), (7, va_rf none)]) [5, 6, 3, 2, 1, 0] rfl ?_
        obtain ⟨n9, hw⟩ := hw
        exact wk_J5_treeifyBin_43 C hC9 S0 hret hXn hini hTb  n9 _ _ _ _ _ _ _ hw
    · replace hw := hw.2 c_4
      refine GK.sub (lv' := [(0, .ref x0)]) [1] rfl ?_
      exact wk_J5_treeifyBin_13 C hC9 S0 hret hXn hini hTb  _ _ hw
/-! 14: java/util/LinkedHashMap.afterNodeAccess(Ljava/util/HashMap$Node;)V -/
def wb_J6_afterNodeAccess_122 (cl : CT) (lm : Nat × Nat) (Q : QT) (E : ET) (x0 : Nat) (x4 : Option Nat) (h : HS) : Prop := (hT h x0 = 20) ∧ (∀ h_1 : HS, h_1 = sR h 68 x0 x4 → ((hT h_1 x0 = 19 ∨ hT h_1 x0 = 20) ∧ ((hT h_1 x0 = 19 ∨ hT h_1 x0 = 20) ∧ (∀ h_2 : HS, h_2 = sI h_1 64 x0 ((hI h_1 64 x0) + 1) → (Q none h_2)))))
theorem wk_J6_afterNodeAccess_122 {X : Ev} {G : GG} {cl : CT} {lm : Nat × Nat} {Q : QT} {E : ET} {h0 : HS} {d2 : Nat} (C : HC X G RJ6 cJ6_afterNodeAccess (d2 + 1)) (hCl : CallsOK (ev_l X) G d2 cl ∧ hLm G lm ∧ 8 ≤ d2 ∧ LamsOK (ev_l X) G d2 cl) (S0 : HS0 X h0) (hret : (ev_h X).sig.returnType = (Option.none : Option Jvm.ClassFile.FieldType)) (hXn : ev_n X = 7) (hini : True) (hTb : (ev_c X).exceptionTable.toList = []) : ∀ (x0 : Nat) (x4 : Option Nat) (h : HS), wb_J6_afterNodeAccess_122 cl lm Q E x0 x4 h → GH X G h (hQ X G h0 Q E) 122 [(0, .ref x0), (4, va_rf x4)] [] := by
  have hlm := hCl.2.1
  have hd8 := hCl.2.2.1
  have hd2 : 1 ≤ d2 := Nat.le_trans (by decide) hd8
  have hLa := hCl.2.2.2
  have hd1 : 1 ≤ d2 + 1 := Nat.le_add_left _ _
  have hC9 := hCl
  replace hCl := hCl.1
  intro x0 x4 h hw
  unfold wb_J6_afterNodeAccess_122 at hw
  refine gk_aload_n (pc := 122) C.1 0 dJ6_afterNodeAccess_122 rfl rfl ?_
  refine gk_qload (pc := 123) C.1 1 dJ6_afterNodeAccess_123 rfl ?_
  obtain ⟨ht, hw⟩ := hw
  refine gfp_J6_11 (pc := 125) (r := x4) C ht dJ6_afterNodeAccess_125 (fun h_1 eh_1 => ?_)
  replace hw := hw h_1 eh_1
  refine gk_aload_n (pc := 128) C.1 0 dJ6_afterNodeAccess_128 rfl rfl ?_
  refine gk_dup (pc := 129) C.1 dJ6_afterNodeAccess_129 rfl ?_
  obtain ⟨ht, hw⟩ := hw
  refine gf_J6_68 (pc := 130) C ht dJ6_afterNodeAccess_130 ?_
  refine gk_iconst (pc := 133) (v := 1) C.1 dJ6_afterNodeAccess_133 (by decide) ?_
  refine gk_iadd (pc := 134) C.1 dJ6_afterNodeAccess_134 ?_
  obtain ⟨ht, hw⟩ := hw
  refine gfp_J6_68 (pc := 135) C ht dJ6_afterNodeAccess_135 (fun h_2 eh_2 => ?_)
  replace hw := hw h_2 eh_2
  refine gk_goto (pc := 138) (tgt := 265) C.1 dJ6_afterNodeAccess_138 (by decide) ?_
  exact gh_vret (pc := 265) C S0 hret dJ6_afterNodeAccess_265 hw
def wb_J6_afterNodeAccess_97 (cl : CT) (lm : Nat × Nat) (Q : QT) (E : ET) (x0 : Nat) (x2 : Option Nat) (x4 : Option Nat) (h : HS) : Prop := (x2 = none → ((hT h x0 = 20) ∧ (∀ h_3 : HS, h_3 = sR h 67 x0 x4 → (wb_J6_afterNodeAccess_122 cl lm Q E x0 x4 h_3)))) ∧ (∀ a_2 : Nat, x2 = some a_2 → (∃ a_4 : Nat, x4 = some a_4 ∧ ((hT h a_4 = 22) ∧ (∀ h_5 : HS, h_5 = sR h 75 a_4 (some a_2) → ((hT h_5 a_2 = 22) ∧ (∀ h_6 : HS, h_6 = sR h_5 76 a_2 (some a_4) → (wb_J6_afterNodeAccess_122 cl lm Q E x0 (some a_4) h_6)))))))
theorem wk_J6_afterNodeAccess_97 {X : Ev} {G : GG} {cl : CT} {lm : Nat × Nat} {Q : QT} {E : ET} {h0 : HS} {d2 : Nat} (C : HC X G RJ6 cJ6_afterNodeAccess (d2 + 1)) (hCl : CallsOK (ev_l X) G d2 cl ∧ hLm G lm ∧ 8 ≤ d2 ∧ LamsOK (ev_l X) G d2 cl) (S0 : HS0 X h0) (hret : (ev_h X).sig.returnType = (Option.none : Option Jvm.ClassFile.FieldType)) (hXn : ev_n X = 7) (hini : True) (hTb : (ev_c X).exceptionTable.toList = []) : ∀ (x0 : Nat) (x2 : Option Nat) (x4 : Option Nat) (h : HS), wb_J6_afterNodeAccess_97 cl lm Q E x0 x2 x4 h → GH X G h (hQ X G h0 Q E) 97 [(0, .ref x0), (2, va_rf x2), (4, va_rf x4)] [] := by
  have hlm := hCl.2.1
  have hd8 := hCl.2.2.1
  have hd2 : 1 ≤ d2 := Nat.le_trans (by decide) hd8
  have hLa := hCl.2.2.2
  have hd1 : 1 ≤ d2 + 1 := Nat.le_add_left _ _
  have hC9 := hCl
  replace hCl := hCl.1
  intro x0 x2 x4 h hw
  unfold wb_J6_afterNodeAccess_97 at hw
  refine gk_qload_n (pc := 97) C.1 1 dJ6_afterNodeAccess_97 rfl rfl ?_
  refine gk_ifnonnull (pc := 98) (tgt := 110) C.1 dJ6_afterNodeAccess_98 (by decide) (fun c_1 => ?_) (fun c_1 => ?_)
  · obtain ⟨a_2, c_1⟩ := Option.ne_none_iff_exists'.mp c_1
    replace hw := hw.2 a_2 c_1
    subst c_1
    refine gk_qload (pc := 110) C.1 2 dJ6_afterNodeAccess_110 rfl ?_
    refine gk_aload_n (pc := 112) C.1 1 dJ6_afterNodeAccess_112 rfl rfl ?_
    obtain ⟨a_4, rfl, hw⟩ := hw
    obtain ⟨ht, hw⟩ := hw
    refine gfp_J6_19 (pc := 113) (r := (some a_2)) C ht dJ6_afterNodeAccess_113 (fun h_5 eh_5 => ?_)
    replace hw := hw h_5 eh_5
    refine gk_aload_n (pc := 116) C.1 1 dJ6_afterNodeAccess_116 rfl rfl ?_
    refine gk_aload (pc := 117) C.1 2 dJ6_afterNodeAccess_117 rfl ?_
    obtain ⟨ht, hw⟩ := hw
    refine gfp_J6_14 (pc := 119) (r := (some a_4)) C ht dJ6_afterNodeAccess_119 (fun h_6 eh_6 => ?_)
    replace hw := hw h_6 eh_6
    refine GK.sub (lv' := [(0, .ref x0), (4, va_rf (some a_4))]) [0, 2] rfl ?_
    exact wk_J6_afterNodeAccess_122 C hC9 S0 hret hXn hini hTb  _ _ _ hw
  · replace hw := hw.1 c_1
    subst c_1
    refine gk_aload_n (pc := 101) C.1 0 dJ6_afterNodeAccess_101 rfl rfl ?_
    refine gk_qload (pc := 102) C.1 2 dJ6_afterNodeAccess_102 rfl ?_
    obtain ⟨ht, hw⟩ := hw
    refine gfp_J6_7 (pc := 104) (r := x4) C ht dJ6_afterNodeAccess_104 (fun h_3 eh_3 => ?_)
    replace hw := hw h_3 eh_3
    refine gk_goto (pc := 107) (tgt := 122) C.1 dJ6_afterNodeAccess_107 (by decide) ?_
    refine GK.sub (lv' := [(0, .ref x0), (4, va_rf x4)]) [0, 2] rfl ?_
    exact wk_J6_afterNodeAccess_122 C hC9 S0 hret hXn hini hTb  _ _ _ hw
def wb_J6_afterNodeAccess_79 (cl : CT) (lm : Nat × Nat) (Q : QT) (E : ET) (x0 : Nat) (x2 : Option Nat) (x4 : Option Nat) (x5 : Option Nat) (x6 : Option Nat) (h : HS) : Prop := (x6 = none → (wb_J6_afterNodeAccess_97 cl lm Q E x0 x5 x4 h)) ∧ (∀ a_2 : Nat, x6 = some a_2 → ((hT h a_2 = 22) ∧ (∀ h_3 : HS, h_3 = sR h 75 a_2 x5 → (wb_J6_afterNodeAccess_97 cl lm Q E x0 x2 x4 h_3))))
theorem wk_J6_afterNodeAccess_79 {X : Ev} {G : GG} {cl : CT} {lm : Nat × Nat} {Q : QT} {E : ET} {h0 : HS} {d2 : Nat} (C : HC X G RJ6 cJ6_afterNodeAccess (d2 + 1)) (hCl : CallsOK (ev_l X) G d2 cl ∧ hLm G lm ∧ 8 ≤ d2 ∧ LamsOK (ev_l X) G d2 cl) (S0 : HS0 X h0) (hret : (ev_h X).sig.returnType = (Option.none : Option Jvm.ClassFile.FieldType)) (hXn : ev_n X = 7) (hini : True) (hTb : (ev_c X).exceptionTable.toList = []) : ∀ (x0 : Nat) (x2 : Option Nat) (x4 : Option Nat) (x5 : Option Nat) (x6 : Option Nat) (h : HS), wb_J6_afterNodeAccess_79 cl lm Q E x0 x2 x4 x5 x6 h → GH X G h (hQ X G h0 Q E) 79 [(0, .ref x0), (2, va_rf x2), (4, va_rf x4), (5, va_rf x5), (6, va_rf x6)] [] := by
  have hlm := hCl.2.1
  have hd8 := hCl.2.2.1
  have hd2 : 1 ≤ d2 := Nat.le_trans (by decide) hd8
  have hLa := hCl.2.2.2
  have hd1 : 1 ≤ d2 + 1 := Nat.le_add_left _ _
  have hC9 := hCl
  replace hCl := hCl.1
  intro x0 x2 x4 x5 x6 h hw
  unfold wb_J6_afterNodeAccess_79 at hw
  refine gk_qload (pc := 79) C.1 4 dJ6_afterNodeAccess_79 rfl ?_
  refine gk_ifnull (pc := 81) (tgt := 94) C.1 dJ6_afterNodeAccess_81 (by decide) (fun c_1 => ?_) (fun c_1 => ?_)
  · replace hw := hw.1 c_1
    subst c_1
    refine gk_qload (pc := 94) C.1 3 dJ6_afterNodeAccess_94 rfl ?_
    refine gk_qstore_n (pc := 96) (lv' := [(2, va_rf x5), (0, Value.ref x0), (4, va_rf x4), (5, va_rf x5), (6, va_rf none)]) C.1 dJ6_afterNodeAccess_96 rfl (by rw [hXn]; decide) (by first | rfl | simp [va_rf_S, va_rf_cat, cat_i, cat_a, cat_l, cat_f, fin4_0, fin4_1, fin4_2, fin4_3]) ?_
    refine GK.sub (lv' := [(0, .ref x0), (2, va_rf x5), (4, va_rf x4)]) [1, 0, 2] rfl ?_
    exact wk_J6_afterNodeAccess_97 C hC9 S0 hret hXn hini hTb  _ _ _ _ hw
  · obtain ⟨a_2, c_1⟩ := Option.ne_none_iff_exists'.mp c_1
    replace hw := hw.2 a_2 c_1
    subst c_1
    refine gk_aload (pc := 84) C.1 4 dJ6_afterNodeAccess_84 rfl ?_
    refine gk_qload (pc := 86) C.1 3 dJ6_afterNodeAccess_86 rfl ?_
    obtain ⟨ht, hw⟩ := hw
    refine gfp_J6_19 (pc := 88) (r := x5) C ht dJ6_afterNodeAccess_88 (fun h_3 eh_3 => ?_)
    replace hw := hw h_3 eh_3
    refine gk_goto (pc := 91) (tgt := 97) C.1 dJ6_afterNodeAccess_91 (by decide) ?_
    refine GK.sub (lv' := [(0, .ref x0), (2, va_rf x2), (4, va_rf x4)]) [0, 1, 2] rfl ?_
    exact wk_J6_afterNodeAccess_97 C hC9 S0 hret hXn hini hTb  _ _ _ _ hw
def wb_J6_afterNodeAccess_249 (cl : CT) (lm : Nat × Nat) (Q : QT) (E : ET) (x0 : Nat) (x4 : Option Nat) (h : HS) : Prop := (hT h x0 = 20) ∧ (∀ h_1 : HS, h_1 = sR h 67 x0 x4 → ((hT h_1 x0 = 19 ∨ hT h_1 x0 = 20) ∧ ((hT h_1 x0 = 19 ∨ hT h_1 x0 = 20) ∧ (∀ h_2 : HS, h_2 = sI h_1 64 x0 ((hI h_1 64 x0) + 1) → (Q none h_2)))))
theorem wk_J6_afterNodeAccess_249 {X : Ev} {G : GG} {cl : CT} {lm : Nat × Nat} {Q : QT} {E : ET} {h0 : HS} {d2 : Nat} (C : HC X G RJ6 cJ6_afterNodeAccess (d2 + 1)) (hCl : CallsOK (ev_l X) G d2 cl ∧ hLm G lm ∧ 8 ≤ d2 ∧ LamsOK (ev_l X) G d2 cl) (S0 : HS0 X h0) (hret : (ev_h X).sig.returnType = (Option.none : Option Jvm.ClassFile.FieldType)) (hXn : ev_n X = 7) (hini : True) (hTb : (ev_c X).exceptionTable.toList = []) : ∀ (x0 : Nat) (x4 : Option Nat) (h : HS), wb_J6_afterNodeAccess_249 cl lm Q E x0 x4 h → GH X G h (hQ X G h0 Q E) 249 [(0, .ref x0), (4, va_rf x4)] [] := by
  have hlm := hCl.2.1
  have hd8 := hCl.2.2.1
  have hd2 : 1 ≤ d2 := Nat.le_trans (by decide) hd8
  have hLa := hCl.2.2.2
  have hd1 : 1 ≤ d2 + 1 := Nat.le_add_left _ _
  have hC9 := hCl
  replace hCl := hCl.1
  intro x0 x4 h hw
  unfold wb_J6_afterNodeAccess_249 at hw
  refine gk_aload_n (pc := 249) C.1 0 dJ6_afterNodeAccess_249 rfl rfl ?_
  refine gk_qload (pc := 250) C.1 1 dJ6_afterNodeAccess_250 rfl ?_
  obtain ⟨ht, hw⟩ := hw
  refine gfp_J6_7 (pc := 252) (r := x4) C ht dJ6_afterNodeAccess_252 (fun h_1 eh_1 => ?_)
  replace hw := hw h_1 eh_1
  refine gk_aload_n (pc := 255) C.1 0 dJ6_afterNodeAccess_255 rfl rfl ?_
  refine gk_dup (pc := 256) C.1 dJ6_afterNodeAccess_256 rfl ?_
  obtain ⟨ht, hw⟩ := hw
  refine gf_J6_68 (pc := 257) C ht dJ6_afterNodeAccess_257 ?_
  refine gk_iconst (pc := 260) (v := 1) C.1 dJ6_afterNodeAccess_260 (by decide) ?_
  refine gk_iadd (pc := 261) C.1 dJ6_afterNodeAccess_261 ?_
  obtain ⟨ht, hw⟩ := hw
  refine gfp_J6_68 (pc := 262) C ht dJ6_afterNodeAccess_262 (fun h_2 eh_2 => ?_)
  replace hw := hw h_2 eh_2
  exact gh_vret (pc := 265) C S0 hret dJ6_afterNodeAccess_265 hw
def wb_J6_afterNodeAccess_224 (cl : CT) (lm : Nat × Nat) (Q : QT) (E : ET) (x0 : Nat) (x3 : Option Nat) (x4 : Option Nat) (h : HS) : Prop := (x3 = none → ((hT h x0 = 20) ∧ (∀ h_3 : HS, h_3 = sR h 68 x0 x4 → (wb_J6_afterNodeAccess_249 cl lm Q E x0 x4 h_3)))) ∧ (∀ a_2 : Nat, x3 = some a_2 → (∃ a_4 : Nat, x4 = some a_4 ∧ ((hT h a_4 = 22) ∧ (∀ h_5 : HS, h_5 = sR h 76 a_4 (some a_2) → ((hT h_5 a_2 = 22) ∧ (∀ h_6 : HS, h_6 = sR h_5 75 a_2 (some a_4) → (wb_J6_afterNodeAccess_249 cl lm Q E x0 (some a_4) h_6)))))))
theorem wk_J6_afterNodeAccess_224 {X : Ev} {G : GG} {cl : CT} {lm : Nat × Nat} {Q : QT} {E : ET} {h0 : HS} {d2 : Nat} (C : HC X G RJ6 cJ6_afterNodeAccess (d2 + 1)) (hCl : CallsOK (ev_l X) G d2 cl ∧ hLm G lm ∧ 8 ≤ d2 ∧ LamsOK (ev_l X) G d2 cl) (S0 : HS0 X h0) (hret : (ev_h X).sig.returnType = (Option.none : Option Jvm.ClassFile.FieldType)) (hXn : ev_n X = 7) (hini : True) (hTb : (ev_c X).exceptionTable.toList = []) : ∀ (x0 : Nat) (x3 : Option Nat) (x4 : Option Nat) (h : HS), wb_J6_afterNodeAccess_224 cl lm Q E x0 x3 x4 h → GH X G h (hQ X G h0 Q E) 224 [(0, .ref x0), (3, va_rf x3), (4, va_rf x4)] [] := by
  have hlm := hCl.2.1
  have hd8 := hCl.2.2.1
  have hd2 : 1 ≤ d2 := Nat.le_trans (by decide) hd8
  have hLa := hCl.2.2.2
  have hd1 : 1 ≤ d2 + 1 := Nat.le_add_left _ _
  have hC9 := hCl
  replace hCl := hCl.1
  intro x0 x3 x4 h hw
  unfold wb_J6_afterNodeAccess_224 at hw
  refine gk_qload_n (pc := 224) C.1 1 dJ6_afterNodeAccess_224 rfl rfl ?_
  refine gk_ifnonnull (pc := 225) (tgt := 237) C.1 dJ6_afterNodeAccess_225 (by decide) (fun c_1 => ?_) (fun c_1 => ?_)
  · obtain ⟨a_2, c_1⟩ := Option.ne_none_iff_exists'.mp c_1
    replace hw := hw.2 a_2 c_1
    subst c_1
    refine gk_qload (pc := 237) C.1 2 dJ6_afterNodeAccess_237 rfl ?_
    refine gk_aload_n (pc := 239) C.1 1 dJ6_afterNodeAccess_239 rfl rfl ?_
    obtain ⟨a_4, rfl, hw⟩ := hw
    obtain ⟨ht, hw⟩ := hw
    refine gfp_J6_14 (pc := 240) (r := (some a_2)) C ht dJ6_afterNodeAccess_240 (fun h_5 eh_5 => ?_)
    replace hw := hw h_5 eh_5
    refine gk_aload_n (pc := 243) C.1 1 dJ6_afterNodeAccess_243 rfl rfl ?_
    refine gk_aload (pc := 244) C.1 2 dJ6_afterNodeAccess_244 rfl ?_
    obtain ⟨ht, hw⟩ := hw
    refine gfp_J6_19 (pc := 246) (r := (some a_4)) C ht dJ6_afterNodeAccess_246 (fun h_6 eh_6 => ?_)
    replace hw := hw h_6 eh_6
    refine GK.sub (lv' := [(0, .ref x0), (4, va_rf (some a_4))]) [0, 2] rfl ?_
    exact wk_J6_afterNodeAccess_249 C hC9 S0 hret hXn hini hTb  _ _ _ hw
  · replace hw := hw.1 c_1
    subst c_1
    refine gk_aload_n (pc := 228) C.1 0 dJ6_afterNodeAccess_228 rfl rfl ?_
    refine gk_qload (pc := 229) C.1 2 dJ6_afterNodeAccess_229 rfl ?_
    obtain ⟨ht, hw⟩ := hw
    refine gfp_J6_11 (pc := 231) (r := x4) C ht dJ6_afterNodeAccess_231 (fun h_3 eh_3 => ?_)
    replace hw := hw h_3 eh_3
    refine gk_goto (pc := 234) (tgt := 249) C.1 dJ6_afterNodeAccess_234 (by decide) ?_
    refine GK.sub (lv' := [(0, .ref x0), (4, va_rf x4)]) [0, 2] rfl ?_
    exact wk_J6_afterNodeAccess_249 C hC9 S0 hret hXn hini hTb  _ _ _ hw
def wb_J6_afterNodeAccess_206 (cl : CT) (lm : Nat × Nat) (Q : QT) (E : ET) (x0 : Nat) (x3 : Option Nat) (x4 : Option Nat) (x5 : Option Nat) (x6 : Option Nat) (h : HS) : Prop := (x5 = none → (wb_J6_afterNodeAccess_224 cl lm Q E x0 x6 x4 h)) ∧ (∀ a_2 : Nat, x5 = some a_2 → ((hT h a_2 = 22) ∧ (∀ h_3 : HS, h_3 = sR h 76 a_2 x6 → (wb_J6_afterNodeAccess_224 cl lm Q E x0 x3 x4 h_3))))
theorem wk_J6_afterNodeAccess_206 {X : Ev} {G : GG} {cl : CT} {lm : Nat × Nat} {Q : QT} {E : ET} {h0 : HS} {d2 : Nat} (C : HC X G RJ6 cJ6_afterNodeAccess (d2 + 1)) (hCl : CallsOK (ev_l X) G d2 cl ∧ hLm G lm ∧ 8 ≤ d2 ∧ LamsOK (ev_l X) G d2 cl) (S0 : HS0 X h0) (hret : (ev_h X).sig.returnType = (Option.none : Option Jvm.ClassFile.FieldType)) (hXn : ev_n X = 7) (hini : True) (hTb : (ev_c X).exceptionTable.toList = []) : ∀ (x0 : Nat) (x3 : Option Nat) (x4 : Option Nat) (x5 : Option Nat) (x6 : Option Nat) (h : HS), wb_J6_afterNodeAccess_206 cl lm Q E x0 x3 x4 x5 x6 h → GH X G h (hQ X G h0 Q E) 206 [(0, .ref x0), (3, va_rf x3), (4, va_rf x4), (5, va_rf x5), (6, va_rf x6)] [] := by
  have hlm := hCl.2.1
  have hd8 := hCl.2.2.1
  have hd2 : 1 ≤ d2 := Nat.le_trans (by decide) hd8
  have hLa := hCl.2.2.2
  have hd1 : 1 ≤ d2 + 1 := Nat.le_add_left _ _
  have hC9 := hCl
  replace hCl := hCl.1
  intro x0 x3 x4 x5 x6 h hw
  unfold wb_J6_afterNodeAccess_206 at hw
  refine gk_qload (pc := 206) C.1 3 dJ6_afterNodeAccess_206 rfl ?_
  refine gk_ifnull (pc := 208) (tgt := 221) C.1 dJ6_afterNodeAccess_208 (by decide) (fun c_1 => ?_) (fun c_1 => ?_)
  · replace hw := hw.1 c_1
    subst c_1
    refine gk_qload (pc := 221) C.1 4 dJ6_afterNodeAccess_221 rfl ?_
    refine gk_qstore_n (pc := 223) (lv' := [(3, va_rf x6), (0, Value.ref x0), (4, va_rf x4), (5, va_rf none), (6, va_rf x6)]) C.1 dJ6_afterNodeAccess_223 rfl (by rw [hXn]; decide) (by first | rfl | simp [va_rf_S, va_rf_cat, cat_i, cat_a, cat_l, cat_f, fin4_0, fin4_1, fin4_2, fin4_3]) ?_
    refine GK.sub (lv' := [(0, .ref x0), (3, va_rf x6), (4, va_rf x4)]) [1, 0, 2] rfl ?_
    exact wk_J6_afterNodeAccess_224 C hC9 S0 hret hXn hini hTb  _ _ _ _ hw
  · obtain ⟨a_2, c_1⟩ := Option.ne_none_iff_exists'.mp c_1
    replace hw := hw.2 a_2 c_1
    subst c_1
    refine gk_aload (pc := 211) C.1 3 dJ6_afterNodeAccess_211 rfl ?_
    refine gk_qload (pc := 213) C.1 4 dJ6_afterNodeAccess_213 rfl ?_
    obtain ⟨ht, hw⟩ := hw
    refine gfp_J6_14 (pc := 215) (r := x6) C ht dJ6_afterNodeAccess_215 (fun h_3 eh_3 => ?_)
    replace hw := hw h_3 eh_3
    refine gk_goto (pc := 218) (tgt := 224) C.1 dJ6_afterNodeAccess_218 (by decide) ?_
    refine GK.sub (lv' := [(0, .ref x0), (3, va_rf x3), (4, va_rf x4)]) [0, 1, 2] rfl ?_
    exact wk_J6_afterNodeAccess_224 C hC9 S0 hret hXn hini hTb  _ _ _ _ hw
def wb_J6_afterNodeAccess_141 (cl : CT) (lm : Nat × Nat) (Q : QT) (E : ET) (x0 : Nat) (x1 : Option Nat) (h : HS) : Prop := (hT h x0 = 20) ∧ (((¬ (hI h 70 x0) = 1 → (Q none h)) ∧ ((hI h 70 x0) = 1 → ((hT h x0 = 20) ∧ (∀ r_2 : Option Nat, r_2 = hR h 67 x0 → (((r_2 = x1 → (Q none h)) ∧ (¬ r_2 = x1 → (ck_LinkedHashMap_Entry h x1 ∧ (∃ a_4 : Nat, x1 = some a_4 ∧ ((hT h a_4 = 22) ∧ (∀ r_5 : Option Nat, r_5 = hR h 75 a_4 → ((hT h a_4 = 22) ∧ (∀ r_6 : Option Nat, r_6 = hR h 76 a_4 → ((hT h a_4 = 22) ∧ (∀ h_7 : HS, h_7 = sR h 75 a_4 none → ((r_6 = none → ((hT h_7 x0 = 20) ∧ (∀ h_10 : HS, h_10 = sR h_7 68 x0 r_5 → (wb_J6_afterNodeAccess_206 cl lm Q E x0 r_2 (some a_4) r_5 none h_10)))) ∧ (∀ a_9 : Nat, r_6 = some a_9 → ((hT h_7 a_9 = 22) ∧ (∀ h_11 : HS, h_11 = sR h_7 75 a_9 r_5 → (wb_J6_afterNodeAccess_206 cl lm Q E x0 r_2 (some a_4) r_5 (some a_9) h_11)))))))))))))))))))))
theorem wk_J6_afterNodeAccess_141 {X : Ev} {G : GG} {cl : CT} {lm : Nat × Nat} {Q : QT} {E : ET} {h0 : HS} {d2 : Nat} (C : HC X G RJ6 cJ6_afterNodeAccess (d2 + 1)) (hCl : CallsOK (ev_l X) G d2 cl ∧ hLm G lm ∧ 8 ≤ d2 ∧ LamsOK (ev_l X) G d2 cl) (S0 : HS0 X h0) (hret : (ev_h X).sig.returnType = (Option.none : Option Jvm.ClassFile.FieldType)) (hXn : ev_n X = 7) (hini : True) (hTb : (ev_c X).exceptionTable.toList = []) : ∀ (x0 : Nat) (x1 : Option Nat) (h : HS), wb_J6_afterNodeAccess_141 cl lm Q E x0 x1 h → GH X G h (hQ X G h0 Q E) 141 [(0, .ref x0), (1, va_rf x1)] [] := by
  have hlm := hCl.2.1
  have hd8 := hCl.2.2.1
  have hd2 : 1 ≤ d2 := Nat.le_trans (by decide) hd8
  have hLa := hCl.2.2.2
  have hd1 : 1 ≤ d2 + 1 := Nat.le_add_left _ _
  have hC9 := hCl
  replace hCl := hCl.1
  intro x0 x1 h hw
  unfold wb_J6_afterNodeAccess_141 at hw
  refine gk_aload_n (pc := 141) C.1 0 dJ6_afterNodeAccess_141 rfl rfl ?_
  obtain ⟨ht, hw⟩ := hw
  refine gf_J6_1 (pc := 142) C ht dJ6_afterNodeAccess_142 ?_
  refine gk_iconst (pc := 145) (v := 1) C.1 dJ6_afterNodeAccess_145 (by decide) ?_
  refine gk_icmp_ne (pc := 146) (tgt := 265) C.1 dJ6_afterNodeAccess_146 (by decide) (fun c_1 => ?_) (fun c_1 => ?_)
  · replace hw := hw.1 c_1
    exact gh_vret (pc := 265) C S0 hret dJ6_afterNodeAccess_265 hw
  · replace hw := hw.2 c_1
    refine gk_aload_n (pc := 149) C.1 0 dJ6_afterNodeAccess_149 rfl rfl ?_
    obtain ⟨ht, hw⟩ := hw
    refine gf_J6_7 (pc := 150) C ht dJ6_afterNodeAccess_150 (fun r_2 er_2 => ?_)
    replace hw := hw r_2 er_2
    refine gk_dup (pc := 153) C.1 dJ6_afterNodeAccess_153 (va_rf_cat _) ?_
    refine gk_qstore_n (pc := 154) (lv' := [(3, va_rf r_2), (0, Value.ref x0), (1, va_rf x1)]) C.1 dJ6_afterNodeAccess_154 rfl (by rw [hXn]; decide) (by first | rfl | simp [va_rf_S, va_rf_cat, cat_i, cat_a, cat_l, cat_f, fin4_0, fin4_1, fin4_2, fin4_3]) ?_
    refine gk_qload_n (pc := 155) C.1 2 dJ6_afterNodeAccess_155 rfl rfl ?_
    refine gk_acmp_eq (pc := 156) (rx := r_2) (ry := x1) (tgt := 265) C.1 dJ6_afterNodeAccess_156 (by decide) (fun c_3 => ?_) (fun c_3 => ?_)
    · replace hw := hw.1 c_3
      exact gh_vret (pc := 265) C S0 hret dJ6_afterNodeAccess_265 hw
    · replace hw := hw.2 c_3
      refine gk_qload_n (pc := 159) C.1 2 dJ6_afterNodeAccess_159 rfl rfl ?_
      obtain ⟨hs, hw⟩ := hw
      refine gh_ckc (pc := 160) (r := x1) C q642 (ck_LinkedHashMap_Entry_ok hs) dJ6_afterNodeAccess_160 ?_
      refine gk_qstore (pc := 163) (lv' := [(4, va_rf x1), (3, va_rf r_2), (0, Value.ref x0), (1, va_rf x1)]) C.1 dJ6_afterNodeAccess_163 (by rw [hXn]; decide) (by first | rfl | simp [va_rf_S, va_rf_cat, cat_i, cat_a, cat_l, cat_f, fin4_0, fin4_1, fin4_2, fin4_3]) ?_
      refine gk_qload (pc := 165) C.1 0 dJ6_afterNodeAccess_165 rfl ?_
      obtain ⟨a_4, rfl, hw⟩ := hw
      obtain ⟨ht, hw⟩ := hw
      refine gf_J6_19 (pc := 167) C ht dJ6_afterNodeAccess_167 (fun r_5 er_5 => ?_)
      replace hw := hw r_5 er_5
      refine gk_qstore (pc := 170) (lv' := [(5, va_rf r_5), (4, Value.ref a_4), (3, va_rf r_2), (0, Value.ref x0), (1, Value.ref a_4)]) C.1 dJ6_afterNodeAccess_170 (by rw [hXn]; decide) (by first | rfl | simp [va_rf_S, va_rf_cat, cat_i, cat_a, cat_l, cat_f, fin4_0, fin4_1, fin4_2, fin4_3]) ?_
      refine gk_aload (pc := 172) C.1 1 dJ6_afterNodeAccess_172 rfl ?_
      obtain ⟨ht, hw⟩ := hw
      refine gf_J6_14 (pc := 174) C ht dJ6_afterNodeAccess_174 (fun r_6 er_6 => ?_)
      replace hw := hw r_6 er_6
      refine gk_qstore (pc := 177) (lv' := [(6, va_rf r_6), (5, va_rf r_5), (4, Value.ref a_4), (3, va_rf r_2), (0, Value.ref x0), (1, Value.ref a_4)]) C.1 dJ6_afterNodeAccess_177 (by rw [hXn]; decide) (by first | rfl | simp [va_rf_S, va_rf_cat, cat_i, cat_a, cat_l, cat_f, fin4_0, fin4_1, fin4_2, fin4_3]) ?_
      refine gk_aload (pc := 179) C.1 2 dJ6_afterNodeAccess_179 rfl ?_
      refine gk_null (pc := 181) C.1 dJ6_afterNodeAccess_181 ?_
      obtain ⟨ht, hw⟩ := hw
      refine gfp_J6_19 (pc := 182) (r := none) C ht dJ6_afterNodeAccess_182 (fun h_7 eh_7 => ?_)
      replace hw := hw h_7 eh_7
      refine gk_qload (pc := 185) C.1 0 dJ6_afterNodeAccess_185 rfl ?_
      refine gk_ifnonnull (pc := 187) (tgt := 199) C.1 dJ6_afterNodeAccess_187 (by decide) (fun c_8 => ?_) (fun c_8 => ?_)
      · obtain ⟨a_9, c_8⟩ := Option.ne_none_iff_exists'.mp c_8
        replace hw := hw.2 a_9 c_8
        subst c_8
        refine gk_aload (pc := 199) C.1 0 dJ6_afterNodeAccess_199 rfl ?_
        refine gk_qload (pc := 201) C.1 1 dJ6_afterNodeAccess_201 rfl ?_
        obtain ⟨ht, hw⟩ := hw
        refine gfp_J6_19 (pc := 203) (r := r_5) C ht dJ6_afterNodeAccess_203 (fun h_11 eh_11 => ?_)
        replace hw := hw h_11 eh_11
        refine GK.sub (lv' := [(0, .ref x0), (3, va_rf r_2), (4, va_rf (some a_4)), (5, va_rf r_5), (6, va_rf (some a_9))]) [4, 3, 2, 1, 0] rfl ?_
        exact wk_J6_afterNodeAccess_206 C hC9 S0 hret hXn hini hTb  _ _ _ _ _ _ hw
      · replace hw := hw.1 c_8
        subst c_8
        refine gk_aload_n (pc := 190) C.1 4 dJ6_afterNodeAccess_190 rfl rfl ?_
        refine gk_qload (pc := 191) C.1 1 dJ6_afterNodeAccess_191 rfl ?_
        obtain ⟨ht, hw⟩ := hw
        refine gfp_J6_11 (pc := 193) (r := r_5) C ht dJ6_afterNodeAccess_193 (fun h_10 eh_10 => ?_)
        replace hw := hw h_10 eh_10
        refine gk_goto (pc := 196) (tgt := 206) C.1 dJ6_afterNodeAccess_196 (by decide) ?_
        refine GK.sub (lv' := [(0, .ref x0), (3, va_rf r_2), (4, va_rf (some a_4)), (5, va_rf r_5), (6, va_rf none)]) [4, 3, 2, 1, 0] rfl ?_
        exact wk_J6_afterNodeAccess_206 C hC9 S0 hret hXn hini hTb  _ _ _ _ _ _ hw
def wb_J6_afterNodeAccess_22 (cl : CT) (lm : Nat × Nat) (Q : QT) (E : ET) (x0 : Nat) (x1 : Option Nat) (h : HS) : Prop := (hT h x0 = 20) ∧ (∀ r_1 : Option Nat, r_1 = hR h 68 x0 → (((r_1 = x1 → (wb_J6_afterNodeAccess_141 cl lm Q E x0 x1 h)) ∧ (¬ r_1 = x1 → (ck_LinkedHashMap_Entry h x1 ∧ (∃ a_3 : Nat, x1 = some a_3 ∧ ((hT h a_3 = 22) ∧ (∀ r_4 : Option Nat, r_4 = hR h 75 a_3 → ((hT h a_3 = 22) ∧ (∀ r_5 : Option Nat, r_5 = hR h 76 a_3 → ((hT h a_3 = 22) ∧ (∀ h_6 : HS, h_6 = sR h 76 a_3 none → ((r_4 = none → ((hT h_6 x0 = 20) ∧ (∀ h_9 : HS, h_9 = sR h_6 67 x0 r_5 → (wb_J6_afterNodeAccess_79 cl lm Q E x0 r_1 (some a_3) none r_5 h_9)))) ∧ (∀ a_8 : Nat, r_4 = some a_8 → ((hT h_6 a_8 = 22) ∧ (∀ h_10 : HS, h_10 = sR h_6 76 a_8 r_5 → (wb_J6_afterNodeAccess_79 cl lm Q E x0 r_1 (some a_3) (some a_8) r_5 h_10)))))))))))))))))
theorem wk_J6_afterNodeAccess_22 {X : Ev} {G : GG} {cl : CT} {lm : Nat × Nat} {Q : QT} {E : ET} {h0 : HS} {d2 : Nat} (C : HC X G RJ6 cJ6_afterNodeAccess (d2 + 1)) (hCl : CallsOK (ev_l X) G d2 cl ∧ hLm G lm ∧ 8 ≤ d2 ∧ LamsOK (ev_l X) G d2 cl) (S0 : HS0 X h0) (hret : (ev_h X).sig.returnType = (Option.none : Option Jvm.ClassFile.FieldType)) (hXn : ev_n X = 7) (hini : True) (hTb : (ev_c X).exceptionTable.toList = []) : ∀ (x0 : Nat) (x1 : Option Nat) (h : HS), wb_J6_afterNodeAccess_22 cl lm Q E x0 x1 h → GH X G h (hQ X G h0 Q E) 22 [(0, .ref x0), (1, va_rf x1)] [] := by
  have hlm := hCl.2.1
  have hd8 := hCl.2.2.1
  have hd2 : 1 ≤ d2 := Nat.le_trans (by decide) hd8
  have hLa := hCl.2.2.2
  have hd1 : 1 ≤ d2 + 1 := Nat.le_add_left _ _
  have hC9 := hCl
  replace hCl := hCl.1
  intro x0 x1 h hw
  unfold wb_J6_afterNodeAccess_22 at hw
  refine gk_aload_n (pc := 22) C.1 0 dJ6_afterNodeAccess_22 rfl rfl ?_
  obtain ⟨ht, hw⟩ := hw
  refine gf_J6_11 (pc := 23) C ht dJ6_afterNodeAccess_23 (fun r_1 er_1 => ?_)
  replace hw := hw r_1 er_1
  refine gk_dup (pc := 26) C.1 dJ6_afterNodeAccess_26 (va_rf_cat _) ?_
  refine gk_qstore_n (pc := 27) (lv' := [(2, va_rf r_1), (0, Value.ref x0), (1, va_rf x1)]) C.1 dJ6_afterNodeAccess_27 rfl (by rw [hXn]; decide) (by first | rfl | simp [va_rf_S, va_rf_cat, cat_i, cat_a, cat_l, cat_f, fin4_0, fin4_1, fin4_2, fin4_3]) ?_
  refine gk_qload_n (pc := 28) C.1 2 dJ6_afterNodeAccess_28 rfl rfl ?_
  refine gk_acmp_eq (pc := 29) (rx := r_1) (ry := x1) (tgt := 141) C.1 dJ6_afterNodeAccess_29 (by decide) (fun c_2 => ?_) (fun c_2 => ?_)
  · replace hw := hw.1 c_2
    refine GK.sub (lv' := [(0, .ref x0), (1, va_rf x1)]) [1, 2] rfl ?_
    exact wk_J6_afterNodeAccess_141 C hC9 S0 hret hXn hini hTb  _ _ _ hw
  · replace hw := hw.2 c_2
    refine gk_qload_n (pc := 32) C.1 2 dJ6_afterNodeAccess_32 rfl rfl ?_
    obtain ⟨hs, hw⟩ := hw
    refine gh_ckc (pc := 33) (r := x1) C q642 (ck_LinkedHashMap_Entry_ok hs) dJ6_afterNodeAccess_33 ?_
    refine gk_qstore (pc := 36) (lv' := [(4, va_rf x1), (2, va_rf r_1), (0, Value.ref x0), (1, va_rf x1)]) C.1 dJ6_afterNodeAccess_36 (by rw [hXn]; decide) (by first | rfl | simp [va_rf_S, va_rf_cat, cat_i, cat_a, cat_l, cat_f, fin4_0, fin4_1, fin4_2, fin4_3]) ?_
    refine gk_qload (pc := 38) C.1 0 dJ6_afterNodeAccess_38 rfl ?_
    obtain ⟨a_3, rfl, hw⟩ := hw
    obtain ⟨ht, hw⟩ := hw
    refine gf_J6_19 (pc := 40) C ht dJ6_afterNodeAccess_40 (fun r_4 er_4 => ?_)
    replace hw := hw r_4 er_4
    refine gk_qstore (pc := 43) (lv' := [(5, va_rf r_4), (4, Value.ref a_3), (2, va_rf r_1), (0, Value.ref x0), (1, Value.ref a_3)]) C.1 dJ6_afterNodeAccess_43 (by rw [hXn]; decide) (by first | rfl | simp [va_rf_S, va_rf_cat, cat_i, cat_a, cat_l, cat_f, fin4_0, fin4_1, fin4_2, fin4_3]) ?_
    refine gk_aload (pc := 45) C.1 1 dJ6_afterNodeAccess_45 rfl ?_
    obtain ⟨ht, hw⟩ := hw
    refine gf_J6_14 (pc := 47) C ht dJ6_afterNodeAccess_47 (fun r_5 er_5 => ?_)
    replace hw := hw r_5 er_5
    refine gk_qstore (pc := 50) (lv' := [(6, va_rf r_5), (5, va_rf r_4), (4, Value.ref a_3), (2, va_rf r_1), (0, Value.ref x0), (1, Value.ref a_3)]) C.1 dJ6_afterNodeAccess_50 (by rw [hXn]; decide) (by first | rfl | simp [va_rf_S, va_rf_cat, cat_i, cat_a, cat_l, cat_f, fin4_0, fin4_1, fin4_2, fin4_3]) ?_
    refine gk_aload (pc := 52) C.1 2 dJ6_afterNodeAccess_52 rfl ?_
    refine gk_null (pc := 54) C.1 dJ6_afterNodeAccess_54 ?_
    obtain ⟨ht, hw⟩ := hw
    refine gfp_J6_14 (pc := 55) (r := none) C ht dJ6_afterNodeAccess_55 (fun h_6 eh_6 => ?_)
    replace hw := hw h_6 eh_6
    refine gk_qload (pc := 58) C.1 1 dJ6_afterNodeAccess_58 rfl ?_
    refine gk_ifnonnull (pc := 60) (tgt := 72) C.1 dJ6_afterNodeAccess_60 (by decide) (fun c_7 => ?_) (fun c_7 => ?_)
    · obtain ⟨a_8, c_7⟩ := Option.ne_none_iff_exists'.mp c_7
      replace hw := hw.2 a_8 c_7
      subst c_7
      refine gk_aload (pc := 72) C.1 1 dJ6_afterNodeAccess_72 rfl ?_
      refine gk_qload (pc := 74) C.1 0 dJ6_afterNodeAccess_74 rfl ?_
      obtain ⟨ht, hw⟩ := hw
      refine gfp_J6_14 (pc := 76) (r := r_5) C ht dJ6_afterNodeAccess_76 (fun h_10 eh_10 => ?_)
      replace hw := hw h_10 eh_10
      refine GK.sub (lv' := [(0, .ref x0), (2, va_rf r_1), (4, va_rf (some a_3)), (5, va_rf (some a_8)), (6, va_rf r_5)]) [4, 3, 2, 1, 0] rfl ?_
      exact wk_J6_afterNodeAccess_79 C hC9 S0 hret hXn hini hTb  _ _ _ _ _ _ hw
    · replace hw := hw.1 c_7
      subst c_7
      refine gk_aload_n (pc := 63) C.1 4 dJ6_afterNodeAccess_63 rfl rfl ?_
      refine gk_qload (pc := 64) C.1 0 dJ6_afterNodeAccess_64 rfl ?_
      obtain ⟨ht, hw⟩ := hw
      refine gfp_J6_7 (pc := 66) (r := r_5) C ht dJ6_afterNodeAccess_66 (fun h_9 eh_9 => ?_)
      replace hw := hw h_9 eh_9
      refine gk_goto (pc := 69) (tgt := 79) C.1 dJ6_afterNodeAccess_69 (by decide) ?_
      refine GK.sub (lv' := [(0, .ref x0), (2, va_rf r_1), (4, va_rf (some a_3)), (5, va_rf none), (6, va_rf r_5)]) [4, 3, 2, 1, 0] rfl ?_
      exact wk_J6_afterNodeAccess_79 C hC9 S0 hret hXn hini hTb  _ _ _ _ _ _ hw
def wb_J6_afterNodeAccess (cl : CT) (lm : Nat × Nat) (Q : QT) (E : ET) (x0 : Nat) (x1 : Option Nat) (h : HS) : Prop := (hT h x0 = 20) ∧ ((((hI h 70 x0) = 2 → (wb_J6_afterNodeAccess_22 cl lm Q E x0 x1 h)) ∧ (¬ (hI h 70 x0) = 2 → ((hT h x0 = 20) ∧ (((¬ (hI h 70 x0) = 0 → (wb_J6_afterNodeAccess_141 cl lm Q E x0 x1 h)) ∧ ((hI h 70 x0) = 0 → ((hT h x0 = 20) ∧ ((((hI h 69 x0) = 0 → (wb_J6_afterNodeAccess_141 cl lm Q E x0 x1 h)) ∧ (¬ (hI h 69 x0) = 0 → (wb_J6_afterNodeAccess_22 cl lm Q E x0 x1 h))))))))))))
theorem wx_J6_afterNodeAccess {l : Launch} (hst : l.stackTraces = false) {G : GG} {cl : CT} {lm : Nat × Nat} {Q : QT} {E : ET} {d2 : Nat} (hCl : CallsOK l G d2 cl ∧ hLm G lm ∧ 8 ≤ d2 ∧ LamsOK l G d2 cl) {x0 : Nat} {x1 : Option Nat} {h : HS} (hw : wb_J6_afterNodeAccess cl lm Q E x0 x1 h) : HMet l G yJ6_afterNodeAccess (ws_ yJ6_afterNodeAccess cJ6_afterNodeAccess 7 ((Option.none : Option Jvm.ClassFile.FieldType))) (d2 + 1) [.ref x0, va_rf x1] h Q E := by
  refine gh_met (own := RJ6) rfl (by decide +kernel) hst (by simp only [lg_sl_i, lg_sl_r, lg_sl_a, lg_sl_2, lg_sl_f, lg_sl_0]; decide) (fun X hXl hXn hret hnm hTb h0 eh C S0 => ?_)
  subst hXl
  have hlm := hCl.2.1
  have hd8 := hCl.2.2.1
  have hd2 : 1 ≤ d2 := Nat.le_trans (by decide) hd8
  have hLa := hCl.2.2.2
  have hd1 : 1 ≤ d2 + 1 := Nat.le_add_left _ _
  have hC9 := hCl
  replace hCl := hCl.1
  have hini : True := trivial
  unfold wb_J6_afterNodeAccess at hw
  refine GK.sub (lv' := [(0, .ref x0), (1, va_rf x1)]) [0, 1] (by simp only [lv_args_i, lv_args_r, lv_args_a, lv_args_l, lv_args_f, lv_args_0]; rfl) ?_
  refine gk_aload_n (pc := 0) C.1 0 dJ6_afterNodeAccess_0 rfl rfl ?_
  obtain ⟨ht, hw⟩ := hw
  refine gf_J6_1 (pc := 1) C ht dJ6_afterNodeAccess_1 ?_
  refine gk_iconst (pc := 4) (v := 2) C.1 dJ6_afterNodeAccess_4 (by decide) ?_
  refine gk_icmp_eq (pc := 5) (tgt := 22) C.1 dJ6_afterNodeAccess_5 (by decide) (fun c_1 => ?_) (fun c_1 => ?_)
  · replace hw := hw.1 c_1
    refine GK.sub (lv' := [(0, .ref x0), (1, va_rf x1)]) [0, 1] rfl ?_
    exact wk_J6_afterNodeAccess_22 C hC9 S0 hret hXn hini hTb  _ _ _ hw
  · replace hw := hw.2 c_1
    refine gk_aload_n (pc := 8) C.1 0 dJ6_afterNodeAccess_8 rfl rfl ?_
    obtain ⟨ht, hw⟩ := hw
    refine gf_J6_1 (pc := 9) C ht dJ6_afterNodeAccess_9 ?_
    refine gk_if_ne (pc := 12) (tgt := 141) C.1 dJ6_afterNodeAccess_12 (by decide) (fun c_2 => ?_) (fun c_2 => ?_)
    · replace hw := hw.1 c_2
      refine GK.sub (lv' := [(0, .ref x0), (1, va_rf x1)]) [0, 1] rfl ?_
      exact wk_J6_afterNodeAccess_141 C hC9 S0 hret hXn hini hTb  _ _ _ hw
    · replace hw := hw.2 c_2
      refine gk_aload_n (pc := 15) C.1 0 dJ6_afterNodeAccess_15 rfl rfl ?_
      obtain ⟨ht, hw⟩ := hw
      refine gf_J6_64 (pc := 16) C ht dJ6_afterNodeAccess_16 ?_
      refine gk_if_eq (pc := 19) (tgt := 141) C.1 dJ6_afterNodeAccess_19 (by decide) (fun c_3 => ?_) (fun c_3 => ?_)
      · replace hw := hw.1 c_3
        refine GK.sub (lv' := [(0, .ref x0), (1, va_rf x1)]) [0, 1] rfl ?_
        exact wk_J6_afterNodeAccess_141 C hC9 S0 hret hXn hini hTb  _ _ _ hw
      · replace hw := hw.2 c_3
        refine GK.sub (lv' := [(0, .ref x0), (1, va_rf x1)]) [0, 1] rfl ?_
        exact wk_J6_afterNodeAccess_22 C hC9 S0 hret hXn hini hTb  _ _ _ hw
/-! 15: java/util/LinkedHashMap.afterNodeInsertion(Z)V -/
def wb_J6_afterNodeInsertion (cl : CT) (lm : Nat × Nat) (Q : QT) (E : ET) (x0 : Nat) (x1 : Int32) (h : HS) : Prop := ((x1 = 0 → (Q none h)) ∧ (¬ x1 = 0 → ((hT h x0 = 20) ∧ (∀ r_2 : Option Nat, r_2 = hR h 67 x0 → ((r_2 = none → (Q none h)) ∧ (∀ a_4 : Nat, r_2 = some a_4 → (dp_LinkedHashMap_removeEldestEntry cl x0 [.ref a_4] h (gI (fun r_6 h_5 => ((r_6 = 0 → (Q none h_5)) ∧ (¬ r_6 = 0 → ((hT h_5 a_4 = 21 ∨ hT h_5 a_4 = 22) ∧ (∀ r_10 : Option Nat, r_10 = hR h_5 72 a_4 → (False))))))) E)))))))
theorem wx_J6_afterNodeInsertion {l : Launch} (hst : l.stackTraces = false) {G : GG} {cl : CT} {lm : Nat × Nat} {Q : QT} {E : ET} {d2 : Nat} (hCl : CallsOK l G d2 cl ∧ hLm G lm ∧ 8 ≤ d2 ∧ LamsOK l G d2 cl) {x0 : Nat} {x1 : Int32} {h : HS} (hw : wb_J6_afterNodeInsertion cl lm Q E x0 x1 h) : HMet l G yJ6_afterNodeInsertion (ws_ yJ6_afterNodeInsertion cJ6_afterNodeInsertion 4 ((Option.none : Option Jvm.ClassFile.FieldType))) (d2 + 1) [.ref x0, .int x1] h Q E := by
  refine gh_met (own := RJ6) rfl (by decide +kernel) hst (by simp only [lg_sl_i, lg_sl_r, lg_sl_a, lg_sl_2, lg_sl_f, lg_sl_0]; decide) (fun X hXl hXn hret hnm hTb h0 eh C S0 => ?_)
  subst hXl
  have hlm := hCl.2.1
  have hd8 := hCl.2.2.1
  have hd2 : 1 ≤ d2 := Nat.le_trans (by decide) hd8
  have hLa := hCl.2.2.2
  have hd1 : 1 ≤ d2 + 1 := Nat.le_add_left _ _
  have hC9 := hCl
  replace hCl := hCl.1
  have hini : True := trivial
  unfold wb_J6_afterNodeInsertion at hw
  refine GK.sub (lv' := [(0, .ref x0), (1, .int x1)]) [0, 1] (by simp only [lv_args_i, lv_args_r, lv_args_a, lv_args_l, lv_args_f, lv_args_0]; rfl) ?_
  refine gk_iload_n (pc := 0) C.1 1 dJ6_afterNodeInsertion_0 rfl rfl ?_
  refine gk_if_eq (pc := 1) (tgt := 39) C.1 dJ6_afterNodeInsertion_1 (by decide) (fun c_1 => ?_) (fun c_1 => ?_)
  · replace hw := hw.1 c_1
    exact gh_vret (pc := 39) C S0 hret dJ6_afterNodeInsertion_39 hw
  · replace hw := hw.2 c_1
    refine gk_aload_n (pc := 4) C.1 0 dJ6_afterNodeInsertion_4 rfl rfl ?_
    obtain ⟨ht, hw⟩ := hw
    refine gf_J6_7 (pc := 5) C ht dJ6_afterNodeInsertion_5 (fun r_2 er_2 => ?_)
    replace hw := hw r_2 er_2
    refine gk_dup (pc := 8) C.1 dJ6_afterNodeInsertion_8 (va_rf_cat _) ?_
    refine gk_qstore_n (pc := 9) (lv' := [(2, va_rf r_2), (0, Value.ref x0), (1, Value.int x1)]) C.1 dJ6_afterNodeInsertion_9 rfl (by rw [hXn]; decide) (by first | rfl | simp [va_rf_S, va_rf_cat, cat_i, cat_a, cat_l, cat_f, fin4_0, fin4_1, fin4_2, fin4_3]) ?_
    refine gk_ifnull (pc := 10) (tgt := 39) C.1 dJ6_afterNodeInsertion_10 (by decide) (fun c_3 => ?_) (fun c_3 => ?_)
    · replace hw := hw.1 c_3
      subst c_3
      exact gh_vret (pc := 39) C S0 hret dJ6_afterNodeInsertion_39 hw
    · obtain ⟨a_4, c_3⟩ := Option.ne_none_iff_exists'.mp c_3
      replace hw := hw.2 a_4 c_3
      subst c_3
      refine gk_aload_n (pc := 13) C.1 1 dJ6_afterNodeInsertion_13 rfl rfl ?_
      refine gk_aload_n (pc := 14) C.1 0 dJ6_afterNodeInsertion_14 rfl rfl ?_
      refine gc_J6_53 (pc := 15) (As := [.ref a_4]) (rest := []) C hCl (Nat.le_refl _) hw rfl rfl (Nat.le_of_ble_eq_true rfl) dJ6_afterNodeInsertion_15 (fun v9 h_5 hp => ?_) (fun q_7 h_8 hw ht9 => ?_)
      rotate_left
      · exact gx_out C S0 (by rw [hTb]; decide) ht9 hw
      clear hw
      obtain ⟨r_6, rfl, hw⟩ := hp
      refine GK.at (p2 := 18) rfl ?_
      refine gk_if_eq (pc := 18) (tgt := 39) C.1 dJ6_afterNodeInsertion_18 (by decide) (fun c_9 => ?_) (fun c_9 => ?_)
      · replace hw := hw.1 c_9
        exact gh_vret (pc := 39) C S0 hret dJ6_afterNodeInsertion_39 hw
      · replace hw := hw.2 c_9
        refine gk_aload_n (pc := 21) C.1 0 dJ6_afterNodeInsertion_21 rfl rfl ?_
        obtain ⟨ht, hw⟩ := hw
        refine gf_J6_39 (pc := 22) C ht dJ6_afterNodeInsertion_22 (fun r_10 er_10 => ?_)
        replace hw := hw r_10 er_10
        refine gk_qstore_n (pc := 25) (lv' := [(3, va_rf r_10), (2, Value.ref a_4), (0, Value.ref x0), (1, Value.int x1)]) C.1 dJ6_afterNodeInsertion_25 rfl (by rw [hXn]; decide) (by first | rfl | simp [va_rf_S, va_rf_cat, cat_i, cat_a, cat_l, cat_f, fin4_0, fin4_1, fin4_2, fin4_3]) ?_
        refine gk_aload_n (pc := 26) C.1 2 dJ6_afterNodeInsertion_26 rfl rfl ?_
        refine gk_qload_n (pc := 27) C.1 0 dJ6_afterNodeInsertion_27 rfl rfl ?_
        exact hw.elim
/-! 16: java/util/LinkedHashMap.get(Ljava/lang/Object;)Ljava/lang/Object; -/
def wb_J6_get_24 (cl : CT) (lm : Nat × Nat) (Q : QT) (E : ET) (x2 : Option Nat) (h : HS) : Prop := ∃ a_1 : Nat, x2 = some a_1 ∧ ((hT h a_1 = 21 ∨ hT h a_1 = 22) ∧ (∀ r_2 : Option Nat, r_2 = hR h 73 a_1 → (Q (some (va_rf r_2)) h)))
theorem wk_J6_get_24 {X : Ev} {G : GG} {cl : CT} {lm : Nat × Nat} {Q : QT} {E : ET} {h0 : HS} {d2 : Nat} (C : HC X G RJ6 cJ6_get (d2 + 1)) (hCl : CallsOK (ev_l X) G d2 cl ∧ hLm G lm ∧ 8 ≤ d2 ∧ LamsOK (ev_l X) G d2 cl) (S0 : HS0 X h0) (hret : (ev_h X).sig.returnType = (Option.some (Jvm.ClassFile.FieldType.object "java/lang/Object"))) (hXn : ev_n X = 3) (hini : True) (hTb : (ev_c X).exceptionTable.toList = []) : ∀ (x2 : Option Nat) (h : HS), wb_J6_get_24 cl lm Q E x2 h → GH X G h (hQ X G h0 Q E) 24 [(2, va_rf x2)] [] := by
  have hlm := hCl.2.1
  have hd8 := hCl.2.2.1
  have hd2 : 1 ≤ d2 := Nat.le_trans (by decide) hd8
  have hLa := hCl.2.2.2
  have hd1 : 1 ≤ d2 + 1 := Nat.le_add_left _ _
  have hC9 := hCl
  replace hCl := hCl.1
  intro x2 h hw
  unfold wb_J6_get_24 at hw
  refine gk_qload_n (pc := 24) C.1 0 dJ6_get_24 rfl rfl ?_
  obtain ⟨a_1, rfl, hw⟩ := hw
  obtain ⟨ht, hw⟩ := hw
  refine gf_J6_107 (pc := 25) C ht dJ6_get_25 (fun r_2 er_2 => ?_)
  replace hw := hw r_2 er_2
  exact gh_aret (pc := 28) (r := r_2) C S0 hret (Or.inl ⟨_, rfl⟩) dJ6_get_28 hw
def wb_J6_get (cl : CT) (lm : Nat × Nat) (Q : QT) (E : ET) (x0 : Nat) (x1 : Option Nat) (h : HS) : Prop := dp_LinkedHashMap_getNode cl x0 [va_rf x1] h (gR (fun r_2 h_1 => (r_2 = none → (Q (some (va_rf none)) h_1)) ∧ (∀ a_6 : Nat, r_2 = some a_6 → ((hT h_1 x0 = 20) ∧ ((((hI h_1 69 x0) = 0 → (wb_J6_get_24 cl lm Q E (some a_6) h_1)) ∧ (¬ (hI h_1 69 x0) = 0 → (dp_LinkedHashMap_afterNodeAccess cl x0 [.ref a_6] h_1 (gV (fun h_8 => wb_J6_get_24 cl lm Q E (some a_6) h_8)) E)))))))) E
theorem wx_J6_get {l : Launch} (hst : l.stackTraces = false) {G : GG} {cl : CT} {lm : Nat × Nat} {Q : QT} {E : ET} {d2 : Nat} (hCl : CallsOK l G d2 cl ∧ hLm G lm ∧ 8 ≤ d2 ∧ LamsOK l G d2 cl) {x0 : Nat} {x1 : Option Nat} {h : HS} (hw : wb_J6_get cl lm Q E x0 x1 h) : HMet l G yJ6_get (ws_ yJ6_get cJ6_get 3 ((Option.some (Jvm.ClassFile.FieldType.object "java/lang/Object")))) (d2 + 1) [.ref x0, va_rf x1] h Q E := by
  refine gh_met (own := RJ6) rfl (by decide +kernel) hst (by simp only [lg_sl_i, lg_sl_r, lg_sl_a, lg_sl_2, lg_sl_f, lg_sl_0]; decide) (fun X hXl hXn hret hnm hTb h0 eh C S0 => ?_)
  subst hXl
  have hlm := hCl.2.1
  have hd8 := hCl.2.2.1
  have hd2 : 1 ≤ d2 := Nat.le_trans (by decide) hd8
  have hLa := hCl.2.2.2
  have hd1 : 1 ≤ d2 + 1 := Nat.le_add_left _ _
  have hC9 := hCl
  replace hCl := hCl.1
  have hini : True := trivial
  unfold wb_J6_get at hw
  refine GK.sub (lv' := [(0, .ref x0), (1, va_rf x1)]) [0, 1] (by simp only [lv_args_i, lv_args_r, lv_args_a, lv_args_l, lv_args_f, lv_args_0]; rfl) ?_
  refine gk_aload_n (pc := 0) C.1 0 dJ6_get_0 rfl rfl ?_
  refine gk_qload_n (pc := 1) C.1 1 dJ6_get_1 rfl rfl ?_
  refine gc_J6_99 (pc := 2) (As := [va_rf x1]) (rest := []) C hCl (Nat.le_refl _) hw rfl rfl (Nat.le_of_ble_eq_true rfl) dJ6_get_2 (fun v9 h_1 hp => ?_) (fun q_3 h_4 hw ht9 => ?_)
  rotate_left
  · exact gx_out C S0 (by rw [hTb]; decide) ht9 hw
  clear hw
  obtain ⟨r_2, rfl, hw⟩ := hp
  refine GK.at (p2 := 5) rfl ?_
  refine gk_dup (pc := 5) C.1 dJ6_get_5 (va_rf_cat _) ?_
  refine gk_qstore_n (pc := 6) (lv' := [(2, va_rf r_2), (0, Value.ref x0), (1, va_rf x1)]) C.1 dJ6_get_6 rfl (by rw [hXn]; decide) (by first | rfl | simp [va_rf_S, va_rf_cat, cat_i, cat_a, cat_l, cat_f, fin4_0, fin4_1, fin4_2, fin4_3]) ?_
  refine gk_ifnonnull (pc := 7) (tgt := 12) C.1 dJ6_get_7 (by decide) (fun c_5 => ?_) (fun c_5 => ?_)
  · obtain ⟨a_6, c_5⟩ := Option.ne_none_iff_exists'.mp c_5
    replace hw := hw.2 a_6 c_5
    subst c_5
    refine gk_aload_n (pc := 12) C.1 1 dJ6_get_12 rfl rfl ?_
    obtain ⟨ht, hw⟩ := hw
    refine gf_J6_64 (pc := 13) C ht dJ6_get_13 ?_
    refine gk_if_eq (pc := 16) (tgt := 24) C.1 dJ6_get_16 (by decide) (fun c_7 => ?_) (fun c_7 => ?_)
    · replace hw := hw.1 c_7
      refine GK.sub (lv' := [(2, va_rf (some a_6))]) [0] rfl ?_
      exact wk_J6_get_24 C hC9 S0 hret hXn hini hTb  _ _ hw
    · replace hw := hw.2 c_7
      refine gk_aload_n (pc := 19) C.1 1 dJ6_get_19 rfl rfl ?_
      refine gk_aload_n (pc := 20) C.1 0 dJ6_get_20 rfl rfl ?_
      refine gc_J6_103 (pc := 21) (As := [.ref a_6]) (rest := []) C hCl (Nat.le_refl _) hw rfl rfl (Nat.le_of_ble_eq_true rfl) dJ6_get_21 (fun v9 h_8 hp => ?_) (fun q_9 h_10 hw ht9 => ?_)
      rotate_left
      · exact gx_out C S0 (by rw [hTb]; decide) ht9 hw
      clear hw
      obtain ⟨rfl, hw⟩ := hp
      refine GK.at (p2 := 24) rfl ?_
      refine GK.sub (lv' := [(2, va_rf (some a_6))]) [0] rfl ?_
      exact wk_J6_get_24 C hC9 S0 hret hXn hini hTb  _ _ hw
  · replace hw := hw.1 c_5
    subst c_5
    refine gk_null (pc := 10) C.1 dJ6_get_10 ?_
    exact gh_aret (pc := 11) (r := none) C S0 hret (Or.inl ⟨_, rfl⟩) dJ6_get_11 hw
/-! 17: java/util/LinkedHashMap.<init>()V -/
def wb_J6_init (cl : CT) (lm : Nat × Nat) (Q : QT) (E : ET) (x0 : Nat) (h : HS) : Prop := cl 7 (.ref x0 :: []) h (gV (fun h_1 => (hT h_1 x0 = 20) ∧ (∀ h_4 : HS, h_4 = sI h_1 70 x0 0 → ((hT h_4 x0 = 20) ∧ (∀ h_5 : HS, h_5 = sI h_4 69 x0 0 → (Q none h_5)))))) E
theorem wx_J6_init {l : Launch} (hst : l.stackTraces = false) {G : GG} {cl : CT} {lm : Nat × Nat} {Q : QT} {E : ET} {d2 : Nat} (hCl : CallsOK l G d2 cl ∧ hLm G lm ∧ 8 ≤ d2 ∧ LamsOK l G d2 cl) {x0 : Nat} {h : HS} (hw : wb_J6_init cl lm Q E x0 h) : HMet l G yJ6_init (ws_ yJ6_init cJ6_init 1 ((Option.none : Option Jvm.ClassFile.FieldType))) (d2 + 1) [.ref x0] h Q E := by
  refine gh_met (own := RJ6) rfl (by decide +kernel) hst (by simp only [lg_sl_i, lg_sl_r, lg_sl_a, lg_sl_2, lg_sl_f, lg_sl_0]; decide) (fun X hXl hXn hret hnm hTb h0 eh C S0 => ?_)
  subst hXl
  have hlm := hCl.2.1
  have hd8 := hCl.2.2.1
  have hd2 : 1 ≤ d2 := Nat.le_trans (by decide) hd8
  have hLa := hCl.2.2.2
  have hd1 : 1 ≤ d2 + 1 := Nat.le_add_left _ _
  have hC9 := hCl
  replace hCl := hCl.1
  have hini : (ev_h X).name = "<init>" := hnm.1
  unfold wb_J6_init at hw
  refine GK.sub (lv' := [(0, .ref x0)]) [0] (by simp only [lv_args_i, lv_args_r, lv_args_a, lv_args_l, lv_args_f, lv_args_0]; rfl) ?_
  refine gk_aload_n (pc := 0) C.1 0 dJ6_init_0 rfl rfl ?_
  refine gc_J6_87 (pc := 1) (As := []) (rest := []) C hCl (Nat.le_refl _) hw rfl rfl (Nat.le_of_ble_eq_true rfl) dJ6_init_1 (fun v9 h_1 hp => ?_) (fun q_2 h_3 hw ht9 => ?_)
  rotate_left
  · exact gx_out C S0 (by rw [hTb]; decide) ht9 hw
  clear hw
  obtain ⟨rfl, hw⟩ := hp
  refine GK.at (p2 := 4) rfl ?_
  refine gk_aload_n (pc := 4) C.1 0 dJ6_init_4 rfl rfl ?_
  refine gk_iconst (pc := 5) (v := 0) C.1 dJ6_init_5 (by decide) ?_
  obtain ⟨ht, hw⟩ := hw
  refine gfp_J6_1 (pc := 6) C ht dJ6_init_6 (fun h_4 eh_4 => ?_)
  replace hw := hw h_4 eh_4
  refine gk_aload_n (pc := 9) C.1 0 dJ6_init_9 rfl rfl ?_
  refine gk_iconst (pc := 10) (v := 0) C.1 dJ6_init_10 (by decide) ?_
  obtain ⟨ht, hw⟩ := hw
  refine gfp_J6_64 (pc := 11) C hini bz0 ht dJ6_init_11 (fun h_5 eh_5 => ?_)
  replace hw := hw h_5 eh_5
  exact gh_vret (pc := 14) C S0 hret dJ6_init_14 hw
/-! 18: java/util/LinkedHashMap.keySet()Ljava/util/Set; -/
def wb_J6_keySet (cl : CT) (lm : Nat × Nat) (Q : QT) (E : ET) (x0 : Nat) (h : HS) : Prop := dp_LinkedHashMap_sequencedKeySet cl x0 [] h (gR (fun r_2 h_1 => Q (some (va_rf r_2)) h_1)) E
theorem wx_J6_keySet {l : Launch} (hst : l.stackTraces = false) {G : GG} {cl : CT} {lm : Nat × Nat} {Q : QT} {E : ET} {d2 : Nat} (hCl : CallsOK l G d2 cl ∧ hLm G lm ∧ 8 ≤ d2 ∧ LamsOK l G d2 cl) {x0 : Nat} {h : HS} (hw : wb_J6_keySet cl lm Q E x0 h) : HMet l G yJ6_keySet (ws_ yJ6_keySet cJ6_keySet 1 ((Option.some (Jvm.ClassFile.FieldType.object "java/util/Set")))) (d2 + 1) [.ref x0] h Q E := by
  refine gh_met (own := RJ6) rfl (by decide +kernel) hst (by simp only [lg_sl_i, lg_sl_r, lg_sl_a, lg_sl_2, lg_sl_f, lg_sl_0]; decide) (fun X hXl hXn hret hnm hTb h0 eh C S0 => ?_)
  subst hXl
  have hlm := hCl.2.1
  have hd8 := hCl.2.2.1
  have hd2 : 1 ≤ d2 := Nat.le_trans (by decide) hd8
  have hLa := hCl.2.2.2
  have hd1 : 1 ≤ d2 + 1 := Nat.le_add_left _ _
  have hC9 := hCl
  replace hCl := hCl.1
  have hini : True := trivial
  unfold wb_J6_keySet at hw
  refine GK.sub (lv' := [(0, .ref x0)]) [0] (by simp only [lv_args_i, lv_args_r, lv_args_a, lv_args_l, lv_args_f, lv_args_0]; rfl) ?_
  refine gk_aload_n (pc := 0) C.1 0 dJ6_keySet_0 rfl rfl ?_
  refine gc_J6_113 (pc := 1) (As := []) (rest := []) C hCl (Nat.le_refl _) hw rfl rfl (Nat.le_of_ble_eq_true rfl) dJ6_keySet_1 (fun v9 h_1 hp => ?_) (fun q_3 h_4 hw ht9 => ?_)
  rotate_left
  · exact gx_out C S0 (by rw [hTb]; decide) ht9 hw
  clear hw
  obtain ⟨r_2, rfl, hw⟩ := hp
  refine GK.at (p2 := 4) rfl ?_
  exact gh_aret (pc := 4) (r := r_2) C S0 hret (Or.inl ⟨_, rfl⟩) dJ6_keySet_4 hw
/-! 19: java/util/LinkedHashMap.linkNodeAtEnd(Ljava/util/LinkedHashMap$Entry;)V -/
def wb_J6_linkNodeAtEnd_40 (cl : CT) (lm : Nat × Nat) (Q : QT) (E : ET) (h : HS) : Prop := Q none h
theorem wk_J6_linkNodeAtEnd_40 {X : Ev} {G : GG} {cl : CT} {lm : Nat × Nat} {Q : QT} {E : ET} {h0 : HS} {d2 : Nat} (C : HC X G RJ6 cJ6_linkNodeAtEnd (d2 + 1)) (hCl : CallsOK (ev_l X) G d2 cl ∧ hLm G lm ∧ 8 ≤ d2 ∧ LamsOK (ev_l X) G d2 cl) (S0 : HS0 X h0) (hret : (ev_h X).sig.returnType = (Option.none : Option Jvm.ClassFile.FieldType)) (hXn : ev_n X = 3) (hini : True) (hTb : (ev_c X).exceptionTable.toList = []) : ∀ (h : HS), wb_J6_linkNodeAtEnd_40 cl lm Q E  h → GH X G h (hQ X G h0 Q E) 40 [] [] := by
  have hlm := hCl.2.1
  have hd8 := hCl.2.2.1
  have hd2 : 1 ≤ d2 := Nat.le_trans (by decide) hd8
  have hLa := hCl.2.2.2
  have hd1 : 1 ≤ d2 + 1 := Nat.le_add_left _ _
  have hC9 := hCl
  replace hCl := hCl.1
  intro  h hw
  unfold wb_J6_linkNodeAtEnd_40 at hw
  refine gk_goto (pc := 40) (tgt := 75) C.1 dJ6_linkNodeAtEnd_40 (by decide) ?_
  exact gh_vret (pc := 75) C S0 hret dJ6_linkNodeAtEnd_75 hw
def wb_J6_linkNodeAtEnd (cl : CT) (lm : Nat × Nat) (Q : QT) (E : ET) (x0 : Nat) (x1 : Option Nat) (h : HS) : Prop := (hT h x0 = 20) ∧ (((¬ (hI h 70 x0) = 1 → ((hT h x0 = 20) ∧ (∀ r_2 : Option Nat, r_2 = hR h 68 x0 → ((hT h x0 = 20) ∧ (∀ h_3 : HS, h_3 = sR h 68 x0 x1 → ((r_2 = none → ((hT h_3 x0 = 20) ∧ (∀ h_6 : HS, h_6 = sR h_3 67 x0 x1 → (Q none h_6)))) ∧ (∀ a_5 : Nat, r_2 = some a_5 → (∃ a_7 : Nat, x1 = some a_7 ∧ ((hT h_3 a_7 = 22) ∧ (∀ h_8 : HS, h_8 = sR h_3 75 a_7 (some a_5) → ((hT h_8 a_5 = 22) ∧ (∀ h_9 : HS, h_9 = sR h_8 76 a_5 (some a_7) → (Q none h_9))))))))))))) ∧ ((hI h 70 x0) = 1 → ((hT h x0 = 20) ∧ (∀ r_10 : Option Nat, r_10 = hR h 67 x0 → ((hT h x0 = 20) ∧ (∀ h_11 : HS, h_11 = sR h 67 x0 x1 → ((r_10 = none → ((hT h_11 x0 = 20) ∧ (∀ h_14 : HS, h_14 = sR h_11 68 x0 x1 → (wb_J6_linkNodeAtEnd_40 cl lm Q E h_14)))) ∧ (∀ a_13 : Nat, r_10 = some a_13 → (∃ a_15 : Nat, x1 = some a_15 ∧ ((hT h_11 a_15 = 22) ∧ (∀ h_16 : HS, h_16 = sR h_11 76 a_15 (some a_13) → ((hT h_16 a_13 = 22) ∧ (∀ h_17 : HS, h_17 = sR h_16 75 a_13 (some a_15) → (wb_J6_linkNodeAtEnd_40 cl lm Q E h_17)))))))))))))))
theorem wx_J6_linkNodeAtEnd {l : Launch} (hst : l.stackTraces = false) {G : GG} {cl : CT} {lm : Nat × Nat} {Q : QT} {E : ET} {d2 : Nat} (hCl : CallsOK l G d2 cl ∧ hLm G lm ∧ 8 ≤ d2 ∧ LamsOK l G d2 cl) {x0 : Nat} {x1 : Option Nat} {h : HS} (hw : wb_J6_linkNodeAtEnd cl lm Q E x0 x1 h) : HMet l G yJ6_linkNodeAtEnd (ws_ yJ6_linkNodeAtEnd cJ6_linkNodeAtEnd 3 ((Option.none : Option Jvm.ClassFile.FieldType))) (d2 + 1) [.ref x0, va_rf x1] h Q E := by
  refine gh_met (own := RJ6) rfl (by decide +kernel) hst (by simp only [lg_sl_i, lg_sl_r, lg_sl_a, lg_sl_2, lg_sl_f, lg_sl_0]; decide) (fun X hXl hXn hret hnm hTb h0 eh C S0 => ?_)
  subst hXl
  have hlm := hCl.2.1
  have hd8 := hCl.2.2.1
  have hd2 : 1 ≤ d2 := Nat.le_trans (by decide) hd8
  have hLa := hCl.2.2.2
  have hd1 : 1 ≤ d2 + 1 := Nat.le_add_left _ _
  have hC9 := hCl
  replace hCl := hCl.1
  have hini : True := trivial
  unfold wb_J6_linkNodeAtEnd at hw
  refine GK.sub (lv' := [(0, .ref x0), (1, va_rf x1)]) [0, 1] (by simp only [lv_args_i, lv_args_r, lv_args_a, lv_args_l, lv_args_f, lv_args_0]; rfl) ?_
  refine gk_aload_n (pc := 0) C.1 0 dJ6_linkNodeAtEnd_0 rfl rfl ?_
  obtain ⟨ht, hw⟩ := hw
  refine gf_J6_1 (pc := 1) C ht dJ6_linkNodeAtEnd_1 ?_
  refine gk_iconst (pc := 4) (v := 1) C.1 dJ6_linkNodeAtEnd_4 (by decide) ?_
  refine gk_icmp_ne (pc := 5) (tgt := 43) C.1 dJ6_linkNodeAtEnd_5 (by decide) (fun c_1 => ?_) (fun c_1 => ?_)
  · replace hw := hw.1 c_1
    refine gk_aload_n (pc := 43) C.1 0 dJ6_linkNodeAtEnd_43 rfl rfl ?_
    obtain ⟨ht, hw⟩ := hw
    refine gf_J6_11 (pc := 44) C ht dJ6_linkNodeAtEnd_44 (fun r_2 er_2 => ?_)
    replace hw := hw r_2 er_2
    refine gk_qstore_n (pc := 47) (lv' := [(2, va_rf r_2), (0, Value.ref x0), (1, va_rf x1)]) C.1 dJ6_linkNodeAtEnd_47 rfl (by rw [hXn]; decide) (by first | rfl | simp [va_rf_S, va_rf_cat, cat_i, cat_a, cat_l, cat_f, fin4_0, fin4_1, fin4_2, fin4_3]) ?_
    refine gk_aload_n (pc := 48) C.1 1 dJ6_linkNodeAtEnd_48 rfl rfl ?_
    refine gk_qload_n (pc := 49) C.1 2 dJ6_linkNodeAtEnd_49 rfl rfl ?_
    obtain ⟨ht, hw⟩ := hw
    refine gfp_J6_11 (pc := 50) (r := x1) C ht dJ6_linkNodeAtEnd_50 (fun h_3 eh_3 => ?_)
    replace hw := hw h_3 eh_3
    refine gk_qload_n (pc := 53) C.1 0 dJ6_linkNodeAtEnd_53 rfl rfl ?_
    refine gk_ifnonnull (pc := 54) (tgt := 65) C.1 dJ6_linkNodeAtEnd_54 (by decide) (fun c_4 => ?_) (fun c_4 => ?_)
    · obtain ⟨a_5, c_4⟩ := Option.ne_none_iff_exists'.mp c_4
      replace hw := hw.2 a_5 c_4
      subst c_4
      refine gk_qload_n (pc := 65) C.1 2 dJ6_linkNodeAtEnd_65 rfl rfl ?_
      refine gk_aload_n (pc := 66) C.1 0 dJ6_linkNodeAtEnd_66 rfl rfl ?_
      obtain ⟨a_7, rfl, hw⟩ := hw
      obtain ⟨ht, hw⟩ := hw
      refine gfp_J6_19 (pc := 67) (r := (some a_5)) C ht dJ6_linkNodeAtEnd_67 (fun h_8 eh_8 => ?_)
      replace hw := hw h_8 eh_8
      refine gk_aload_n (pc := 70) C.1 0 dJ6_linkNodeAtEnd_70 rfl rfl ?_
      refine gk_aload_n (pc := 71) C.1 2 dJ6_linkNodeAtEnd_71 rfl rfl ?_
      obtain ⟨ht, hw⟩ := hw
      refine gfp_J6_14 (pc := 72) (r := (some a_7)) C ht dJ6_linkNodeAtEnd_72 (fun h_9 eh_9 => ?_)
      replace hw := hw h_9 eh_9
      exact gh_vret (pc := 75) C S0 hret dJ6_linkNodeAtEnd_75 hw
    · replace hw := hw.1 c_4
      subst c_4
      refine gk_aload_n (pc := 57) C.1 1 dJ6_linkNodeAtEnd_57 rfl rfl ?_
      refine gk_qload_n (pc := 58) C.1 2 dJ6_linkNodeAtEnd_58 rfl rfl ?_
      obtain ⟨ht, hw⟩ := hw
      refine gfp_J6_7 (pc := 59) (r := x1) C ht dJ6_linkNodeAtEnd_59 (fun h_6 eh_6 => ?_)
      replace hw := hw h_6 eh_6
      refine gk_goto (pc := 62) (tgt := 75) C.1 dJ6_linkNodeAtEnd_62 (by decide) ?_
      exact gh_vret (pc := 75) C S0 hret dJ6_linkNodeAtEnd_75 hw
  · replace hw := hw.2 c_1
    refine gk_aload_n (pc := 8) C.1 0 dJ6_linkNodeAtEnd_8 rfl rfl ?_
    obtain ⟨ht, hw⟩ := hw
    refine gf_J6_7 (pc := 9) C ht dJ6_linkNodeAtEnd_9 (fun r_10 er_10 => ?_)
    replace hw := hw r_10 er_10
    refine gk_qstore_n (pc := 12) (lv' := [(2, va_rf r_10), (0, Value.ref x0), (1, va_rf x1)]) C.1 dJ6_linkNodeAtEnd_12 rfl (by rw [hXn]; decide) (by first | rfl | simp [va_rf_S, va_rf_cat, cat_i, cat_a, cat_l, cat_f, fin4_0, fin4_1, fin4_2, fin4_3]) ?_
    refine gk_aload_n (pc := 13) C.1 1 dJ6_linkNodeAtEnd_13 rfl rfl ?_
    refine gk_qload_n (pc := 14) C.1 2 dJ6_linkNodeAtEnd_14 rfl rfl ?_
    obtain ⟨ht, hw⟩ := hw
    refine gfp_J6_7 (pc := 15) (r := x1) C ht dJ6_linkNodeAtEnd_15 (fun h_11 eh_11 => ?_)
    replace hw := hw h_11 eh_11
    refine gk_qload_n (pc := 18) C.1 0 dJ6_linkNodeAtEnd_18 rfl rfl ?_
    refine gk_ifnonnull (pc := 19) (tgt := 30) C.1 dJ6_linkNodeAtEnd_19 (by decide) (fun c_12 => ?_) (fun c_12 => ?_)
    · obtain ⟨a_13, c_12⟩ := Option.ne_none_iff_exists'.mp c_12
      replace hw := hw.2 a_13 c_12
      subst c_12
      refine gk_qload_n (pc := 30) C.1 2 dJ6_linkNodeAtEnd_30 rfl rfl ?_
      refine gk_aload_n (pc := 31) C.1 0 dJ6_linkNodeAtEnd_31 rfl rfl ?_
      obtain ⟨a_15, rfl, hw⟩ := hw
      obtain ⟨ht, hw⟩ := hw
      refine gfp_J6_14 (pc := 32) (r := (some a_13)) C ht dJ6_linkNodeAtEnd_32 (fun h_16 eh_16 => ?_)
      replace hw := hw h_16 eh_16
      refine gk_aload_n (pc := 35) C.1 0 dJ6_linkNodeAtEnd_35 rfl rfl ?_
      refine gk_aload_n (pc := 36) C.1 2 dJ6_linkNodeAtEnd_36 rfl rfl ?_
      obtain ⟨ht, hw⟩ := hw
      refine gfp_J6_19 (pc := 37) (r := (some a_15)) C ht dJ6_linkNodeAtEnd_37 (fun h_17 eh_17 => ?_)
      replace hw := hw h_17 eh_17
      refine GK.sub (lv' := []) [] rfl ?_
      exact wk_J6_linkNodeAtEnd_40 C hC9 S0 hret hXn hini hTb   _ hw
    · replace hw := hw.1 c_12
      subst c_12
      refine gk_aload_n (pc := 22) C.1 1 dJ6_linkNodeAtEnd_22 rfl rfl ?_
      refine gk_qload_n (pc := 23) C.1 2 dJ6_linkNodeAtEnd_23 rfl rfl ?_
      obtain ⟨ht, hw⟩ := hw
      refine gfp_J6_11 (pc := 24) (r := x1) C ht dJ6_linkNodeAtEnd_24 (fun h_14 eh_14 => ?_)
      replace hw := hw h_14 eh_14
      refine gk_goto (pc := 27) (tgt := 40) C.1 dJ6_linkNodeAtEnd_27 (by decide) ?_
      refine GK.sub (lv' := []) [] rfl ?_
      exact wk_J6_linkNodeAtEnd_40 C hC9 S0 hret hXn hini hTb   _ hw
