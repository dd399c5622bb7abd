set_option maxRecDepth 100000
/-! 20: java/util/LinkedHashMap.newNode(ILjava/lang/Object;Ljava/lang/Object;Ljava/util/HashMap$Node;)Ljava/util/HashMap$Node; -/
def wb_J6_newNode (cl : CT) (lm : Nat × Nat) (Q : QT) (E : ET) (x0 : Nat) (x1 : Int32) (x2 : Option Nat) (x3 : Option Nat) (x4 : Option Nat) (h : HS) : Prop := hZ h + 1 ≤ lm.1 ∧ (hL h + 6 ≤ lm.2 ∧ (∀ (a_2 : Nat) (h_1 : HS), a_2 = hZ h → h_1 = hNew h 22 0 6 → (cl 33 (.ref a_2 :: [.int x1, va_rf x2, va_rf x3, va_rf x4]) h_1 (gV (fun h_3 => dp_LinkedHashMap_linkNodeAtEnd cl x0 [.ref a_2] h_3 (gV (fun h_6 => Q (some (va_rf (some a_2))) h_6)) E)) E)))
theorem wx_J6_newNode {l : Launch} (hst : l.stackTraces = false) {G : GG} {cl : CT} {lm : Nat × Nat} {Q : QT} {E : ET} {d2 : Nat} (hCl : CallsOK l G d2 cl ∧ hLm G lm ∧ 8 ≤ d2 ∧ LamsOK l G d2 cl) {x0 : Nat} {x1 : Int32} {x2 : Option Nat} {x3 : Option Nat} {x4 : Option Nat} {h : HS} (hw : wb_J6_newNode cl lm Q E x0 x1 x2 x3 x4 h) : HMet l G yJ6_newNode (ws_ yJ6_newNode cJ6_newNode 6 ((Option.some (Jvm.ClassFile.FieldType.object "java/util/HashMap$Node")))) (d2 + 1) [.ref x0, .int x1, va_rf x2, va_rf x3, va_rf x4] h Q E := by
  refine gh_met (own := RJ6) rfl (by decide +kernel) hst (by simp only [lg_sl_i, lg_sl_r, lg_sl_a, lg_sl_2, lg_sl_f, lg_sl_0]; decide) (fun X hXl hXn hret hnm hTb h0 eh C S0 => ?_)
  subst hXl
  have hlm := hCl.2.1
  have hd8 := hCl.2.2.1
  have hd2 : 1 ≤ d2 := Nat.le_trans (by decide) hd8
  have hLa := hCl.2.2.2
  have hd1 : 1 ≤ d2 + 1 := Nat.le_add_left _ _
  have hC9 := hCl
  replace hCl := hCl.1
  have hini : True := trivial
  unfold wb_J6_newNode at hw
  refine GK.sub (lv' := [(0, .ref x0), (1, .int x1), (2, va_rf x2), (3, va_rf x3), (4, va_rf x4)]) [0, 1, 2, 3, 4] (by simp only [lv_args_i, lv_args_r, lv_args_a, lv_args_l, lv_args_f, lv_args_0]; rfl) ?_
  obtain ⟨hr1, hr2, hw⟩ := hw
  refine gn_J6_15 (pc := 0) C (hlm.1 ▸ hr1) (hlm.2 ▸ hr2) dJ6_newNode_0 (fun h_1 eh_1 => ?_)
  obtain ⟨a_2, ea_2⟩ : ∃ z : Nat, z = hZ h := ⟨_, rfl⟩
  rw [← ea_2]
  replace hw := hw a_2 h_1 ea_2 eh_1
  refine gk_dup (pc := 3) C.1 dJ6_newNode_3 rfl ?_
  refine gk_iload_n (pc := 4) C.1 1 dJ6_newNode_4 rfl rfl ?_
  refine gk_qload_n (pc := 5) C.1 2 dJ6_newNode_5 rfl rfl ?_
  refine gk_qload_n (pc := 6) C.1 3 dJ6_newNode_6 rfl rfl ?_
  refine gk_qload (pc := 7) C.1 4 dJ6_newNode_7 rfl ?_
  refine gc_J6_28 (pc := 9) (As := [.int x1, va_rf x2, va_rf x3, va_rf x4]) (rest := [.ref a_2]) C hCl (Nat.le_refl _) hw rfl rfl (Nat.le_of_ble_eq_true rfl) dJ6_newNode_9 (fun v9 h_3 hp => ?_) (fun q_4 h_5 hw ht9 => ?_)
  rotate_left
  · exact gx_out C S0 (by rw [hTb]; decide) ht9 hw
  clear hw
  obtain ⟨rfl, hw⟩ := hp
  refine GK.at (p2 := 12) rfl ?_
  refine gk_astore (pc := 12) (lv' := [(5, Value.ref a_2), (0, Value.ref x0), (1, Value.int x1), (2, va_rf x2), (3, va_rf x3), (4, va_rf x4)]) C.1 dJ6_newNode_12 (by rw [hXn]; decide) (by first | rfl | simp [va_rf_S, va_rf_cat, cat_i, cat_a, cat_l, cat_f, fin4_0, fin4_1, fin4_2, fin4_3]) ?_
  refine gk_aload_n (pc := 14) C.1 1 dJ6_newNode_14 rfl rfl ?_
  refine gk_aload (pc := 15) C.1 0 dJ6_newNode_15 rfl ?_
  refine gc_J6_32 (pc := 17) (As := [.ref a_2]) (rest := []) C hCl (Nat.le_refl _) hw rfl rfl (Nat.le_of_ble_eq_true rfl) dJ6_newNode_17 (fun v9 h_6 hp => ?_) (fun q_7 h_8 hw ht9 => ?_)
  rotate_left
  · exact gx_out C S0 (by rw [hTb]; decide) ht9 hw
  clear hw
  obtain ⟨rfl, hw⟩ := hp
  refine GK.at (p2 := 20) rfl ?_
  refine gk_aload (pc := 20) C.1 0 dJ6_newNode_20 rfl ?_
  exact gh_aret (pc := 22) (r := (some a_2)) C S0 hret (Or.inl ⟨_, rfl⟩) dJ6_newNode_22 hw
/-! 21: java/util/LinkedHashMap.removeEldestEntry(Ljava/util/Map$Entry;)Z -/
def wb_J6_removeEldestEntry (cl : CT) (lm : Nat × Nat) (Q : QT) (E : ET) (x0 : Nat) (x1 : Option Nat) (h : HS) : Prop := Q (some (.int 0)) h
theorem wx_J6_removeEldestEntry {l : Launch} (hst : l.stackTraces = false) {G : GG} {cl : CT} {lm : Nat × Nat} {Q : QT} {E : ET} {d2 : Nat} (hCl : CallsOK l G d2 cl ∧ hLm G lm ∧ 8 ≤ d2 ∧ LamsOK l G d2 cl) {x0 : Nat} {x1 : Option Nat} {h : HS} (hw : wb_J6_removeEldestEntry cl lm Q E x0 x1 h) : HMet l G yJ6_removeEldestEntry (ws_ yJ6_removeEldestEntry cJ6_removeEldestEntry 2 ((Option.some Jvm.ClassFile.FieldType.boolean))) (d2 + 1) [.ref x0, va_rf x1] h Q E := by
  refine gh_met (own := RJ6) rfl (by decide +kernel) hst (by simp only [lg_sl_i, lg_sl_r, lg_sl_a, lg_sl_2, lg_sl_f, lg_sl_0]; decide) (fun X hXl hXn hret hnm hTb h0 eh C S0 => ?_)
  subst hXl
  have hlm := hCl.2.1
  have hd8 := hCl.2.2.1
  have hd2 : 1 ≤ d2 := Nat.le_trans (by decide) hd8
  have hLa := hCl.2.2.2
  have hd1 : 1 ≤ d2 + 1 := Nat.le_add_left _ _
  have hC9 := hCl
  replace hCl := hCl.1
  have hini : True := trivial
  unfold wb_J6_removeEldestEntry at hw
  refine GK.sub (lv' := [(0, .ref x0), (1, va_rf x1)]) [0, 1] (by simp only [lv_args_i, lv_args_r, lv_args_a, lv_args_l, lv_args_f, lv_args_0]; rfl) ?_
  refine gk_iconst (pc := 0) (v := 0) C.1 dJ6_removeEldestEntry_0 (by decide) ?_
  exact gh_zret (pc := 1) C S0 hret dJ6_removeEldestEntry_1 bz0 hw
/-! 22: java/util/LinkedHashMap.sequencedKeySet()Ljava/util/SequencedSet; -/
def wb_J6_sequencedKeySet (cl : CT) (lm : Nat × Nat) (Q : QT) (E : ET) (x0 : Nat) (h : HS) : Prop := (hT h x0 = 19 ∨ hT h x0 = 20) ∧ (∀ r_1 : Option Nat, r_1 = hR h 59 x0 → ((r_1 = none → (hZ h + 1 ≤ lm.1 ∧ (hL h + 2 ≤ lm.2 ∧ (∀ (a_5 : Nat) (h_4 : HS), a_5 = hZ h → h_4 = hNew h 23 0 2 → (cl 36 (.ref a_5 :: [.ref x0, .int 0]) h_4 (gV (fun h_6 => (hT h_6 x0 = 19 ∨ hT h_6 x0 = 20) ∧ (∀ h_9 : HS, h_9 = sR h_6 59 x0 (some a_5) → (Q (some (va_rf (some a_5))) h_9)))) E))))) ∧ (∀ a_3 : Nat, r_1 = some a_3 → (ck_SequencedSet h (some a_3) ∧ (Q (some (va_rf (some a_3))) h)))))
theorem wx_J6_sequencedKeySet {l : Launch} (hst : l.stackTraces = false) {G : GG} {cl : CT} {lm : Nat × Nat} {Q : QT} {E : ET} {d2 : Nat} (hCl : CallsOK l G d2 cl ∧ hLm G lm ∧ 8 ≤ d2 ∧ LamsOK l G d2 cl) {x0 : Nat} {h : HS} (hw : wb_J6_sequencedKeySet cl lm Q E x0 h) : HMet l G yJ6_sequencedKeySet (ws_ yJ6_sequencedKeySet cJ6_sequencedKeySet 3 ((Option.some (Jvm.ClassFile.FieldType.object "java/util/SequencedSet")))) (d2 + 1) [.ref x0] h Q E := by
  refine gh_met (own := RJ6) rfl (by decide +kernel) hst (by simp only [lg_sl_i, lg_sl_r, lg_sl_a, lg_sl_2, lg_sl_f, lg_sl_0]; decide) (fun X hXl hXn hret hnm hTb h0 eh C S0 => ?_)
  subst hXl
  have hlm := hCl.2.1
  have hd8 := hCl.2.2.1
  have hd2 : 1 ≤ d2 := Nat.le_trans (by decide) hd8
  have hLa := hCl.2.2.2
  have hd1 : 1 ≤ d2 + 1 := Nat.le_add_left _ _
  have hC9 := hCl
  replace hCl := hCl.1
  have hini : True := trivial
  unfold wb_J6_sequencedKeySet at hw
  refine GK.sub (lv' := [(0, .ref x0)]) [0] (by simp only [lv_args_i, lv_args_r, lv_args_a, lv_args_l, lv_args_f, lv_args_0]; rfl) ?_
  refine gk_aload_n (pc := 0) C.1 0 dJ6_sequencedKeySet_0 rfl rfl ?_
  obtain ⟨ht, hw⟩ := hw
  refine gf_J6_117 (pc := 1) C ht dJ6_sequencedKeySet_1 (fun r_1 er_1 => ?_)
  replace hw := hw r_1 er_1
  refine gk_qstore_n (pc := 4) (lv' := [(1, va_rf r_1), (0, Value.ref x0)]) C.1 dJ6_sequencedKeySet_4 rfl (by rw [hXn]; decide) (by first | rfl | simp [va_rf_S, va_rf_cat, cat_i, cat_a, cat_l, cat_f, fin4_0, fin4_1, fin4_2, fin4_3]) ?_
  refine gk_qload_n (pc := 5) C.1 0 dJ6_sequencedKeySet_5 rfl rfl ?_
  refine gk_ifnonnull (pc := 6) (tgt := 26) C.1 dJ6_sequencedKeySet_6 (by decide) (fun c_2 => ?_) (fun c_2 => ?_)
  · obtain ⟨a_3, c_2⟩ := Option.ne_none_iff_exists'.mp c_2
    replace hw := hw.2 a_3 c_2
    subst c_2
    refine gk_aload_n (pc := 26) C.1 0 dJ6_sequencedKeySet_26 rfl rfl ?_
    obtain ⟨hs, hw⟩ := hw
    refine gh_ckc (pc := 27) (r := (some a_3)) C q1048 (ck_SequencedSet_ok hs) dJ6_sequencedKeySet_27 ?_
    exact gh_aret (pc := 30) (r := (some a_3)) C S0 hret (Or.inl ⟨_, rfl⟩) dJ6_sequencedKeySet_30 hw
  · replace hw := hw.1 c_2
    subst c_2
    obtain ⟨hr1, hr2, hw⟩ := hw
    refine gn_J6_121 (pc := 9) C (hlm.1 ▸ hr1) (hlm.2 ▸ hr2) dJ6_sequencedKeySet_9 (fun h_4 eh_4 => ?_)
    obtain ⟨a_5, ea_5⟩ : ∃ z : Nat, z = hZ h := ⟨_, rfl⟩
    rw [← ea_5]
    replace hw := hw a_5 h_4 ea_5 eh_4
    refine gk_dup (pc := 12) C.1 dJ6_sequencedKeySet_12 rfl ?_
    refine gk_aload_n (pc := 13) C.1 1 dJ6_sequencedKeySet_13 rfl rfl ?_
    refine gk_iconst (pc := 14) (v := 0) C.1 dJ6_sequencedKeySet_14 (by decide) ?_
    refine gc_J6_123 (pc := 15) (As := [.ref x0, .int 0]) (rest := [.ref a_5]) C hCl (Nat.le_refl _) hw rfl rfl (Nat.le_of_ble_eq_true rfl) dJ6_sequencedKeySet_15 (fun v9 h_6 hp => ?_) (fun q_7 h_8 hw ht9 => ?_)
    rotate_left
    · exact gx_out C S0 (by rw [hTb]; decide) ht9 hw
    clear hw
    obtain ⟨rfl, hw⟩ := hp
    refine GK.at (p2 := 18) rfl ?_
    refine gk_astore_n (pc := 18) (lv' := [(2, Value.ref a_5), (1, va_rf none), (0, Value.ref x0)]) C.1 dJ6_sequencedKeySet_18 rfl (by rw [hXn]; decide) (by first | rfl | simp [va_rf_S, va_rf_cat, cat_i, cat_a, cat_l, cat_f, fin4_0, fin4_1, fin4_2, fin4_3]) ?_
    refine gk_aload_n (pc := 19) C.1 2 dJ6_sequencedKeySet_19 rfl rfl ?_
    refine gk_aload_n (pc := 20) C.1 0 dJ6_sequencedKeySet_20 rfl rfl ?_
    obtain ⟨ht, hw⟩ := hw
    refine gfp_J6_117 (pc := 21) (r := (some a_5)) C ht dJ6_sequencedKeySet_21 (fun h_9 eh_9 => ?_)
    replace hw := hw h_9 eh_9
    refine gk_aload_n (pc := 24) C.1 0 dJ6_sequencedKeySet_24 rfl rfl ?_
    exact gh_aret (pc := 25) (r := (some a_5)) C S0 hret (Or.inl ⟨_, rfl⟩) dJ6_sequencedKeySet_25 hw
/-! 23: java/lang/Integer.compare(II)I -/
def wb_J8_compare (cl : CT) (lm : Nat × Nat) (Q : QT) (E : ET) (x0 : Int32) (x1 : Int32) (h : HS) : Prop := ((x1 ≤ x0 → (((¬ x0 = x1 → (Q (some (.int 1)) h)) ∧ (x0 = x1 → (Q (some (.int 0)) h))))) ∧ (¬ x1 ≤ x0 → (Q (some (.int (-1))) h)))
theorem wx_J8_compare {l : Launch} (hst : l.stackTraces = false) {G : GG} {cl : CT} {lm : Nat × Nat} {Q : QT} {E : ET} {d2 : Nat} (hCl : CallsOK l G d2 cl ∧ hLm G lm ∧ 8 ≤ d2 ∧ LamsOK l G d2 cl) {x0 : Int32} {x1 : Int32} {h : HS} (hw : wb_J8_compare cl lm Q E x0 x1 h) : HMet l G yJ8_compare (ws_ yJ8_compare cJ8_compare 2 ((Option.some Jvm.ClassFile.FieldType.int))) (d2 + 1) [.int x0, .int x1] h Q E := by
  refine gh_met (own := RJ8) rfl (by decide +kernel) hst (by simp only [lg_sl_i, lg_sl_r, lg_sl_a, lg_sl_2, lg_sl_f, lg_sl_0]; decide) (fun X hXl hXn hret hnm hTb h0 eh C S0 => ?_)
  subst hXl
  have hlm := hCl.2.1
  have hd8 := hCl.2.2.1
  have hd2 : 1 ≤ d2 := Nat.le_trans (by decide) hd8
  have hLa := hCl.2.2.2
  have hd1 : 1 ≤ d2 + 1 := Nat.le_add_left _ _
  have hC9 := hCl
  replace hCl := hCl.1
  have hini : True := trivial
  unfold wb_J8_compare at hw
  refine GK.sub (lv' := [(0, .int x0), (1, .int x1)]) [0, 1] (by simp only [lv_args_i, lv_args_r, lv_args_a, lv_args_l, lv_args_f, lv_args_0]; rfl) ?_
  refine gk_iload_n (pc := 0) C.1 0 dJ8_compare_0 rfl rfl ?_
  refine gk_iload_n (pc := 1) C.1 1 dJ8_compare_1 rfl rfl ?_
  refine gk_icmp_ge (pc := 2) (tgt := 9) C.1 dJ8_compare_2 (by decide) (fun c_1 => ?_) (fun c_1 => ?_)
  · replace hw := hw.1 c_1
    refine gk_iload_n (pc := 9) C.1 0 dJ8_compare_9 rfl rfl ?_
    refine gk_iload_n (pc := 10) C.1 1 dJ8_compare_10 rfl rfl ?_
    refine gk_icmp_ne (pc := 11) (tgt := 18) C.1 dJ8_compare_11 (by decide) (fun c_2 => ?_) (fun c_2 => ?_)
    · replace hw := hw.1 c_2
      refine gk_iconst (pc := 18) (v := 1) C.1 dJ8_compare_18 (by decide) ?_
      exact gh_iret (pc := 19) C S0 hret dJ8_compare_19 hw
    · replace hw := hw.2 c_2
      refine gk_iconst (pc := 14) (v := 0) C.1 dJ8_compare_14 (by decide) ?_
      refine gk_goto (pc := 15) (tgt := 19) C.1 dJ8_compare_15 (by decide) ?_
      exact gh_iret (pc := 19) C S0 hret dJ8_compare_19 hw
  · replace hw := hw.2 c_1
    refine gk_iconst (pc := 5) (v := (-1)) C.1 dJ8_compare_5 (by decide) ?_
    refine gk_goto (pc := 6) (tgt := 19) C.1 dJ8_compare_6 (by decide) ?_
    exact gh_iret (pc := 19) C S0 hret dJ8_compare_19 hw
/-! 24: java/lang/Integer.compareTo(Ljava/lang/Object;)I -/
def wb_J8_compareTo (cl : CT) (lm : Nat × Nat) (Q : QT) (E : ET) (x0 : Nat) (x1 : Option Nat) (h : HS) : Prop := ck_Integer h x1 ∧ (dp_Integer_compareTo cl x0 [va_rf x1] h (gI (fun r_2 h_1 => Q (some (.int r_2)) h_1)) E)
theorem wx_J8_compareTo {l : Launch} (hst : l.stackTraces = false) {G : GG} {cl : CT} {lm : Nat × Nat} {Q : QT} {E : ET} {d2 : Nat} (hCl : CallsOK l G d2 cl ∧ hLm G lm ∧ 8 ≤ d2 ∧ LamsOK l G d2 cl) {x0 : Nat} {x1 : Option Nat} {h : HS} (hw : wb_J8_compareTo cl lm Q E x0 x1 h) : HMet l G yJ8_compareTo (ws_ yJ8_compareTo cJ8_compareTo 2 ((Option.some Jvm.ClassFile.FieldType.int))) (d2 + 1) [.ref x0, va_rf x1] h Q E := by
  refine gh_met (own := RJ8) rfl (by decide +kernel) hst (by simp only [lg_sl_i, lg_sl_r, lg_sl_a, lg_sl_2, lg_sl_f, lg_sl_0]; decide) (fun X hXl hXn hret hnm hTb h0 eh C S0 => ?_)
  subst hXl
  have hlm := hCl.2.1
  have hd8 := hCl.2.2.1
  have hd2 : 1 ≤ d2 := Nat.le_trans (by decide) hd8
  have hLa := hCl.2.2.2
  have hd1 : 1 ≤ d2 + 1 := Nat.le_add_left _ _
  have hC9 := hCl
  replace hCl := hCl.1
  have hini : True := trivial
  unfold wb_J8_compareTo at hw
  refine GK.sub (lv' := [(0, .ref x0), (1, va_rf x1)]) [0, 1] (by simp only [lv_args_i, lv_args_r, lv_args_a, lv_args_l, lv_args_f, lv_args_0]; rfl) ?_
  refine gk_aload_n (pc := 0) C.1 0 dJ8_compareTo_0 rfl rfl ?_
  refine gk_qload_n (pc := 1) C.1 1 dJ8_compareTo_1 rfl rfl ?_
  obtain ⟨hs, hw⟩ := hw
  refine gh_ckc (pc := 2) (r := x1) C q574 (ck_Integer_ok hs) dJ8_compareTo_2 ?_
  refine gc_J8_284 (pc := 5) (As := [va_rf x1]) (rest := []) C hCl (Nat.le_refl _) hw rfl rfl (Nat.le_of_ble_eq_true rfl) dJ8_compareTo_5 (fun v9 h_1 hp => ?_) (fun q_3 h_4 hw ht9 => ?_)
  rotate_left
  · exact gx_out C S0 (by rw [hTb]; decide) ht9 hw
  clear hw
  obtain ⟨r_2, rfl, hw⟩ := hp
  refine GK.at (p2 := 8) rfl ?_
  exact gh_iret (pc := 8) C S0 hret dJ8_compareTo_8 hw
/-! 25: java/lang/Integer.compareTo(Ljava/lang/Integer;)I -/
def wb_J8_compareTo_2 (cl : CT) (lm : Nat × Nat) (Q : QT) (E : ET) (x0 : Nat) (x1 : Option Nat) (h : HS) : Prop := (hT h x0 = 300) ∧ (∃ a_1 : Nat, x1 = some a_1 ∧ ((hT h a_1 = 300) ∧ (cl 23 [.int (hI h fINT x0), .int (hI h fINT a_1)] h (gI (fun r_3 h_2 => Q (some (.int r_3)) h_2)) E)))
theorem wx_J8_compareTo_2 {l : Launch} (hst : l.stackTraces = false) {G : GG} {cl : CT} {lm : Nat × Nat} {Q : QT} {E : ET} {d2 : Nat} (hCl : CallsOK l G d2 cl ∧ hLm G lm ∧ 8 ≤ d2 ∧ LamsOK l G d2 cl) {x0 : Nat} {x1 : Option Nat} {h : HS} (hw : wb_J8_compareTo_2 cl lm Q E x0 x1 h) : HMet l G yJ8_compareTo_2 (ws_ yJ8_compareTo_2 cJ8_compareTo_2 2 ((Option.some Jvm.ClassFile.FieldType.int))) (d2 + 1) [.ref x0, va_rf x1] h Q E := by
  refine gh_met (own := RJ8) rfl (by decide +kernel) hst (by simp only [lg_sl_i, lg_sl_r, lg_sl_a, lg_sl_2, lg_sl_f, lg_sl_0]; decide) (fun X hXl hXn hret hnm hTb h0 eh C S0 => ?_)
  subst hXl
  have hlm := hCl.2.1
  have hd8 := hCl.2.2.1
  have hd2 : 1 ≤ d2 := Nat.le_trans (by decide) hd8
  have hLa := hCl.2.2.2
  have hd1 : 1 ≤ d2 + 1 := Nat.le_add_left _ _
  have hC9 := hCl
  replace hCl := hCl.1
  have hini : True := trivial
  unfold wb_J8_compareTo_2 at hw
  refine GK.sub (lv' := [(0, .ref x0), (1, va_rf x1)]) [0, 1] (by simp only [lv_args_i, lv_args_r, lv_args_a, lv_args_l, lv_args_f, lv_args_0]; rfl) ?_
  refine gk_aload_n (pc := 0) C.1 0 dJ8_compareTo_2_0 rfl rfl ?_
  obtain ⟨ht, hw⟩ := hw
  refine gf_J8_205 (pc := 1) C ht dJ8_compareTo_2_1 ?_
  refine gk_qload_n (pc := 4) C.1 1 dJ8_compareTo_2_4 rfl rfl ?_
  obtain ⟨a_1, rfl, hw⟩ := hw
  obtain ⟨ht, hw⟩ := hw
  refine gf_J8_205 (pc := 5) C ht dJ8_compareTo_2_5 ?_
  refine gc_J8_259 (pc := 8) (As := [.int (hI h fINT x0), .int (hI h fINT a_1)]) (rest := []) C hCl (Nat.le_refl _) hw rfl rfl (Nat.le_of_ble_eq_true rfl) dJ8_compareTo_2_8 (fun v9 h_2 hp => ?_) (fun q_4 h_5 hw ht9 => ?_)
  rotate_left
  · exact gx_out C S0 (by rw [hTb]; decide) ht9 hw
  clear hw
  obtain ⟨r_3, rfl, hw⟩ := hp
  refine GK.at (p2 := 11) rfl ?_
  exact gh_iret (pc := 11) C S0 hret dJ8_compareTo_2_11 hw
/-! 26: java/lang/Integer.equals(Ljava/lang/Object;)Z -/
def wb_J8_equals (cl : CT) (lm : Nat × Nat) (Q : QT) (E : ET) (x0 : Nat) (x1 : Option Nat) (h : HS) : Prop := (∃ a_1 : Nat, x1 = some a_1 ∧ ((hT h a_1 = 300) ∧ ((hT h x0 = 300) ∧ (ck_Integer h (some a_1) ∧ (dp_Integer_intValue cl a_1 [] h (gI (fun r_3 h_2 => ((¬ (hI h fINT x0) = r_3 → (Q (some (.int 0)) h_2)) ∧ ((hI h fINT x0) = r_3 → (Q (some (.int 1)) h_2))))) E))))) ∨ ((∀ a_1 : Nat, x1 = some a_1 → (False)) ∧ (Q (some (.int 0)) h))
theorem wx_J8_equals {l : Launch} (hst : l.stackTraces = false) {G : GG} {cl : CT} {lm : Nat × Nat} {Q : QT} {E : ET} {d2 : Nat} (hCl : CallsOK l G d2 cl ∧ hLm G lm ∧ 8 ≤ d2 ∧ LamsOK l G d2 cl) {x0 : Nat} {x1 : Option Nat} {h : HS} (hw : wb_J8_equals cl lm Q E x0 x1 h) : HMet l G yJ8_equals (ws_ yJ8_equals cJ8_equals 2 ((Option.some Jvm.ClassFile.FieldType.boolean))) (d2 + 1) [.ref x0, va_rf x1] h Q E := by
  refine gh_met (own := RJ8) rfl (by decide +kernel) hst (by simp only [lg_sl_i, lg_sl_r, lg_sl_a, lg_sl_2, lg_sl_f, lg_sl_0]; decide) (fun X hXl hXn hret hnm hTb h0 eh C S0 => ?_)
  subst hXl
  have hlm := hCl.2.1
  have hd8 := hCl.2.2.1
  have hd2 : 1 ≤ d2 := Nat.le_trans (by decide) hd8
  have hLa := hCl.2.2.2
  have hd1 : 1 ≤ d2 + 1 := Nat.le_add_left _ _
  have hC9 := hCl
  replace hCl := hCl.1
  have hini : True := trivial
  unfold wb_J8_equals at hw
  refine GK.sub (lv' := [(0, .ref x0), (1, va_rf x1)]) [0, 1] (by simp only [lv_args_i, lv_args_r, lv_args_a, lv_args_l, lv_args_f, lv_args_0]; rfl) ?_
  refine gk_qload_n (pc := 0) C.1 1 dJ8_equals_0 rfl rfl ?_
  rcases hw with ⟨a_1, rfl, hs, hw⟩ | ⟨hs, hw⟩
  · skip
    refine gi_J8_1_y (pc := 1) C hs dJ8_equals_1 ?_
    refine gk_if_eq (pc := 4) (tgt := 27) C.1 dJ8_equals_4 (by decide) (fun c9 => ?_) (fun c9 => ?_)
    · exact absurd c9 (by decide)
    refine gk_aload_n (pc := 7) C.1 0 dJ8_equals_7 rfl rfl ?_
    obtain ⟨ht, hw⟩ := hw
    refine gf_J8_205 (pc := 8) C ht dJ8_equals_8 ?_
    refine gk_aload_n (pc := 11) C.1 1 dJ8_equals_11 rfl rfl ?_
    obtain ⟨hs, hw⟩ := hw
    refine gh_ckc (pc := 12) (r := (some a_1)) C q574 (ck_Integer_ok hs) dJ8_equals_12 ?_
    refine gc_J8_211 (pc := 15) (As := []) (rest := [.int (hI h fINT x0)]) C hCl (Nat.le_refl _) hw rfl rfl (Nat.le_of_ble_eq_true rfl) dJ8_equals_15 (fun v9 h_2 hp => ?_) (fun q_4 h_5 hw ht9 => ?_)
    rotate_left
    · exact gx_out C S0 (by rw [hTb]; decide) ht9 hw
    clear hw
    obtain ⟨r_3, rfl, hw⟩ := hp
    refine GK.at (p2 := 18) rfl ?_
    refine gk_icmp_ne (pc := 18) (tgt := 25) C.1 dJ8_equals_18 (by decide) (fun c_6 => ?_) (fun c_6 => ?_)
    · replace hw := hw.1 c_6
      refine gk_iconst (pc := 25) (v := 0) C.1 dJ8_equals_25 (by decide) ?_
      exact gh_zret (pc := 26) C S0 hret dJ8_equals_26 bz0 hw
    · replace hw := hw.2 c_6
      refine gk_iconst (pc := 21) (v := 1) C.1 dJ8_equals_21 (by decide) ?_
      refine gk_goto (pc := 22) (tgt := 26) C.1 dJ8_equals_22 (by decide) ?_
      exact gh_zret (pc := 26) C S0 hret dJ8_equals_26 bz1 hw
  · refine gi_J8_1_n (pc := 1) (r := x1) C hs dJ8_equals_1 ?_
    refine gk_if_eq (pc := 4) (tgt := 27) C.1 dJ8_equals_4 (by decide) (fun c9 => ?_) (fun c9 => ?_)
    rotate_left
    · exact absurd rfl c9
    refine gk_iconst (pc := 27) (v := 0) C.1 dJ8_equals_27 (by decide) ?_
    exact gh_zret (pc := 28) C S0 hret dJ8_equals_28 bz0 hw
/-! 27: java/lang/Integer.hashCode()I -/
def wb_J8_hashCode (cl : CT) (lm : Nat × Nat) (Q : QT) (E : ET) (x0 : Nat) (h : HS) : Prop := (hT h x0 = 300) ∧ (cl 28 [.int (hI h fINT x0)] h (gI (fun r_2 h_1 => Q (some (.int r_2)) h_1)) E)
theorem wx_J8_hashCode {l : Launch} (hst : l.stackTraces = false) {G : GG} {cl : CT} {lm : Nat × Nat} {Q : QT} {E : ET} {d2 : Nat} (hCl : CallsOK l G d2 cl ∧ hLm G lm ∧ 8 ≤ d2 ∧ LamsOK l G d2 cl) {x0 : Nat} {h : HS} (hw : wb_J8_hashCode cl lm Q E x0 h) : HMet l G yJ8_hashCode (ws_ yJ8_hashCode cJ8_hashCode 1 ((Option.some Jvm.ClassFile.FieldType.int))) (d2 + 1) [.ref x0] h Q E := by
  refine gh_met (own := RJ8) rfl (by decide +kernel) hst (by simp only [lg_sl_i, lg_sl_r, lg_sl_a, lg_sl_2, lg_sl_f, lg_sl_0]; decide) (fun X hXl hXn hret hnm hTb h0 eh C S0 => ?_)
  subst hXl
  have hlm := hCl.2.1
  have hd8 := hCl.2.2.1
  have hd2 : 1 ≤ d2 := Nat.le_trans (by decide) hd8
  have hLa := hCl.2.2.2
  have hd1 : 1 ≤ d2 + 1 := Nat.le_add_left _ _
  have hC9 := hCl
  replace hCl := hCl.1
  have hini : True := trivial
  unfold wb_J8_hashCode at hw
  refine GK.sub (lv' := [(0, .ref x0)]) [0] (by simp only [lv_args_i, lv_args_r, lv_args_a, lv_args_l, lv_args_f, lv_args_0]; rfl) ?_
  refine gk_aload_n (pc := 0) C.1 0 dJ8_hashCode_0 rfl rfl ?_
  obtain ⟨ht, hw⟩ := hw
  refine gf_J8_205 (pc := 1) C ht dJ8_hashCode_1 ?_
  refine gc_J8_208 (pc := 4) (As := [.int (hI h fINT x0)]) (rest := []) C hCl (Nat.le_refl _) hw rfl rfl (Nat.le_of_ble_eq_true rfl) dJ8_hashCode_4 (fun v9 h_1 hp => ?_) (fun q_3 h_4 hw ht9 => ?_)
  rotate_left
  · exact gx_out C S0 (by rw [hTb]; decide) ht9 hw
  clear hw
  obtain ⟨r_2, rfl, hw⟩ := hp
  refine GK.at (p2 := 7) rfl ?_
  exact gh_iret (pc := 7) C S0 hret dJ8_hashCode_7 hw
/-! 28: java/lang/Integer.hashCode(I)I -/
def wb_J8_hashCode_2 (cl : CT) (lm : Nat × Nat) (Q : QT) (E : ET) (x0 : Int32) (h : HS) : Prop := Q (some (.int x0)) h
theorem wx_J8_hashCode_2 {l : Launch} (hst : l.stackTraces = false) {G : GG} {cl : CT} {lm : Nat × Nat} {Q : QT} {E : ET} {d2 : Nat} (hCl : CallsOK l G d2 cl ∧ hLm G lm ∧ 8 ≤ d2 ∧ LamsOK l G d2 cl) {x0 : Int32} {h : HS} (hw : wb_J8_hashCode_2 cl lm Q E x0 h) : HMet l G yJ8_hashCode_2 (ws_ yJ8_hashCode_2 cJ8_hashCode_2 1 ((Option.some Jvm.ClassFile.FieldType.int))) (d2 + 1) [.int x0] h Q E := by
  refine gh_met (own := RJ8) rfl (by decide +kernel) hst (by simp only [lg_sl_i, lg_sl_r, lg_sl_a, lg_sl_2, lg_sl_f, lg_sl_0]; decide) (fun X hXl hXn hret hnm hTb h0 eh C S0 => ?_)
  subst hXl
  have hlm := hCl.2.1
  have hd8 := hCl.2.2.1
  have hd2 : 1 ≤ d2 := Nat.le_trans (by decide) hd8
  have hLa := hCl.2.2.2
  have hd1 : 1 ≤ d2 + 1 := Nat.le_add_left _ _
  have hC9 := hCl
  replace hCl := hCl.1
  have hini : True := trivial
  unfold wb_J8_hashCode_2 at hw
  refine GK.sub (lv' := [(0, .int x0)]) [0] (by simp only [lv_args_i, lv_args_r, lv_args_a, lv_args_l, lv_args_f, lv_args_0]; rfl) ?_
  refine gk_iload_n (pc := 0) C.1 0 dJ8_hashCode_2_0 rfl rfl ?_
  exact gh_iret (pc := 1) C S0 hret dJ8_hashCode_2_1 hw
/-! 29: java/lang/Integer.<init>(I)V -/
def wb_J8_init (cl : CT) (lm : Nat × Nat) (Q : QT) (E : ET) (x0 : Nat) (x1 : Int32) (h : HS) : Prop := False
theorem wx_J8_init {l : Launch} (hst : l.stackTraces = false) {G : GG} {cl : CT} {lm : Nat × Nat} {Q : QT} {E : ET} {d2 : Nat} (hCl : CallsOK l G d2 cl ∧ hLm G lm ∧ 8 ≤ d2 ∧ LamsOK l G d2 cl) {x0 : Nat} {x1 : Int32} {h : HS} (hw : wb_J8_init cl lm Q E x0 x1 h) : HMet l G yJ8_init (ws_ yJ8_init cJ8_init 2 ((Option.none : Option Jvm.ClassFile.FieldType))) (d2 + 1) [.ref x0, .int x1] h Q E := by
  refine gh_met (own := RJ8) rfl (by decide +kernel) hst (by simp only [lg_sl_i, lg_sl_r, lg_sl_a, lg_sl_2, lg_sl_f, lg_sl_0]; decide) (fun X hXl hXn hret hnm hTb h0 eh C S0 => ?_)
  subst hXl
  have hlm := hCl.2.1
  have hd8 := hCl.2.2.1
  have hd2 : 1 ≤ d2 := Nat.le_trans (by decide) hd8
  have hLa := hCl.2.2.2
  have hd1 : 1 ≤ d2 + 1 := Nat.le_add_left _ _
  have hC9 := hCl
  replace hCl := hCl.1
  have hini : (ev_h X).name = "<init>" := hnm.1
  unfold wb_J8_init at hw
  refine GK.sub (lv' := [(0, .ref x0), (1, .int x1)]) [0, 1] (by simp only [lv_args_i, lv_args_r, lv_args_a, lv_args_l, lv_args_f, lv_args_0]; rfl) ?_
  refine gk_aload_n (pc := 0) C.1 0 dJ8_init_0 rfl rfl ?_
  exact hw.elim
/-! 30: java/lang/Integer.intValue()I -/
def wb_J8_intValue (cl : CT) (lm : Nat × Nat) (Q : QT) (E : ET) (x0 : Nat) (h : HS) : Prop := (hT h x0 = 300) ∧ (Q (some (.int (hI h fINT x0))) h)
theorem wx_J8_intValue {l : Launch} (hst : l.stackTraces = false) {G : GG} {cl : CT} {lm : Nat × Nat} {Q : QT} {E : ET} {d2 : Nat} (hCl : CallsOK l G d2 cl ∧ hLm G lm ∧ 8 ≤ d2 ∧ LamsOK l G d2 cl) {x0 : Nat} {h : HS} (hw : wb_J8_intValue cl lm Q E x0 h) : HMet l G yJ8_intValue (ws_ yJ8_intValue cJ8_intValue 1 ((Option.some Jvm.ClassFile.FieldType.int))) (d2 + 1) [.ref x0] h Q E := by
  refine gh_met (own := RJ8) rfl (by decide +kernel) hst (by simp only [lg_sl_i, lg_sl_r, lg_sl_a, lg_sl_2, lg_sl_f, lg_sl_0]; decide) (fun X hXl hXn hret hnm hTb h0 eh C S0 => ?_)
  subst hXl
  have hlm := hCl.2.1
  have hd8 := hCl.2.2.1
  have hd2 : 1 ≤ d2 := Nat.le_trans (by decide) hd8
  have hLa := hCl.2.2.2
  have hd1 : 1 ≤ d2 + 1 := Nat.le_add_left _ _
  have hC9 := hCl
  replace hCl := hCl.1
  have hini : True := trivial
  unfold wb_J8_intValue at hw
  refine GK.sub (lv' := [(0, .ref x0)]) [0] (by simp only [lv_args_i, lv_args_r, lv_args_a, lv_args_l, lv_args_f, lv_args_0]; rfl) ?_
  refine gk_aload_n (pc := 0) C.1 0 dJ8_intValue_0 rfl rfl ?_
  obtain ⟨ht, hw⟩ := hw
  refine gf_J8_205 (pc := 1) C ht dJ8_intValue_1 ?_
  exact gh_iret (pc := 4) C S0 hret dJ8_intValue_4 hw
/-! 31: java/util/HashMap$Node.getKey()Ljava/lang/Object; -/
def wb_J9_getKey (cl : CT) (lm : Nat × Nat) (Q : QT) (E : ET) (x0 : Nat) (h : HS) : Prop := (hT h x0 = 21 ∨ hT h x0 = 22) ∧ (∀ r_1 : Option Nat, r_1 = hR h 72 x0 → (Q (some (va_rf r_1)) h))
theorem wx_J9_getKey {l : Launch} (hst : l.stackTraces = false) {G : GG} {cl : CT} {lm : Nat × Nat} {Q : QT} {E : ET} {d2 : Nat} (hCl : CallsOK l G d2 cl ∧ hLm G lm ∧ 8 ≤ d2 ∧ LamsOK l G d2 cl) {x0 : Nat} {h : HS} (hw : wb_J9_getKey cl lm Q E x0 h) : HMet l G yJ9_getKey (ws_ yJ9_getKey cJ9_getKey 1 ((Option.some (Jvm.ClassFile.FieldType.object "java/lang/Object")))) (d2 + 1) [.ref x0] h Q E := by
  refine gh_met (own := RJ9) rfl (by decide +kernel) hst (by simp only [lg_sl_i, lg_sl_r, lg_sl_a, lg_sl_2, lg_sl_f, lg_sl_0]; decide) (fun X hXl hXn hret hnm hTb h0 eh C S0 => ?_)
  subst hXl
  have hlm := hCl.2.1
  have hd8 := hCl.2.2.1
  have hd2 : 1 ≤ d2 := Nat.le_trans (by decide) hd8
  have hLa := hCl.2.2.2
  have hd1 : 1 ≤ d2 + 1 := Nat.le_add_left _ _
  have hC9 := hCl
  replace hCl := hCl.1
  have hini : True := trivial
  unfold wb_J9_getKey at hw
  refine GK.sub (lv' := [(0, .ref x0)]) [0] (by simp only [lv_args_i, lv_args_r, lv_args_a, lv_args_l, lv_args_f, lv_args_0]; rfl) ?_
  refine gk_aload_n (pc := 0) C.1 0 dJ9_getKey_0 rfl rfl ?_
  obtain ⟨ht, hw⟩ := hw
  refine gf_J9_13 (pc := 1) C ht dJ9_getKey_1 (fun r_1 er_1 => ?_)
  replace hw := hw r_1 er_1
  exact gh_aret (pc := 4) (r := r_1) C S0 hret (Or.inl ⟨_, rfl⟩) dJ9_getKey_4 hw
/-! 32: java/util/HashMap$Node.<init>(ILjava/lang/Object;Ljava/lang/Object;Ljava/util/HashMap$Node;)V -/
def wb_J9_init (cl : CT) (lm : Nat × Nat) (Q : QT) (E : ET) (x0 : Nat) (x1 : Int32) (x2 : Option Nat) (x3 : Option Nat) (x4 : Option Nat) (h : HS) : Prop := (hT h x0 = 21 ∨ hT h x0 = 22) ∧ (∀ h_1 : HS, h_1 = sI h 71 x0 x1 → ((hT h_1 x0 = 21 ∨ hT h_1 x0 = 22) ∧ (∀ h_2 : HS, h_2 = sR h_1 72 x0 x2 → ((hT h_2 x0 = 21 ∨ hT h_2 x0 = 22) ∧ (∀ h_3 : HS, h_3 = sR h_2 73 x0 x3 → ((hT h_3 x0 = 21 ∨ hT h_3 x0 = 22) ∧ (∀ h_4 : HS, h_4 = sR h_3 74 x0 x4 → (Q none h_4))))))))
theorem wx_J9_init {l : Launch} (hst : l.stackTraces = false) {G : GG} {cl : CT} {lm : Nat × Nat} {Q : QT} {E : ET} {d2 : Nat} (hCl : CallsOK l G d2 cl ∧ hLm G lm ∧ 8 ≤ d2 ∧ LamsOK l G d2 cl) {x0 : Nat} {x1 : Int32} {x2 : Option Nat} {x3 : Option Nat} {x4 : Option Nat} {h : HS} (hw : wb_J9_init cl lm Q E x0 x1 x2 x3 x4 h) : HMet l G yJ9_init (ws_ yJ9_init cJ9_init 5 ((Option.none : Option Jvm.ClassFile.FieldType))) (d2 + 1) [.ref x0, .int x1, va_rf x2, va_rf x3, va_rf x4] h Q E := by
  refine gh_met (own := RJ9) rfl (by decide +kernel) hst (by simp only [lg_sl_i, lg_sl_r, lg_sl_a, lg_sl_2, lg_sl_f, lg_sl_0]; decide) (fun X hXl hXn hret hnm hTb h0 eh C S0 => ?_)
  subst hXl
  have hlm := hCl.2.1
  have hd8 := hCl.2.2.1
  have hd2 : 1 ≤ d2 := Nat.le_trans (by decide) hd8
  have hLa := hCl.2.2.2
  have hd1 : 1 ≤ d2 + 1 := Nat.le_add_left _ _
  have hC9 := hCl
  replace hCl := hCl.1
  have hini : (ev_h X).name = "<init>" := hnm.1
  unfold wb_J9_init at hw
  refine GK.sub (lv' := [(0, .ref x0), (1, .int x1), (2, va_rf x2), (3, va_rf x3), (4, va_rf x4)]) [0, 1, 2, 3, 4] (by simp only [lv_args_i, lv_args_r, lv_args_a, lv_args_l, lv_args_f, lv_args_0]; rfl) ?_
  refine gk_aload_n (pc := 0) C.1 0 dJ9_init_0 rfl rfl ?_
  refine gh_obj (pc := 1) C hd1 q855 (Nat.le_of_ble_eq_true rfl) dJ9_init_1 ?_
  refine gk_aload_n (pc := 4) C.1 0 dJ9_init_4 rfl rfl ?_
  refine gk_iload_n (pc := 5) C.1 1 dJ9_init_5 rfl rfl ?_
  obtain ⟨ht, hw⟩ := hw
  refine gfp_J9_7 (pc := 6) C hini ht dJ9_init_6 (fun h_1 eh_1 => ?_)
  replace hw := hw h_1 eh_1
  refine gk_aload_n (pc := 9) C.1 0 dJ9_init_9 rfl rfl ?_
  refine gk_qload_n (pc := 10) C.1 2 dJ9_init_10 rfl rfl ?_
  obtain ⟨ht, hw⟩ := hw
  refine gfp_J9_13 (pc := 11) (r := x2) C hini ht dJ9_init_11 (fun h_2 eh_2 => ?_)
  replace hw := hw h_2 eh_2
  refine gk_aload_n (pc := 14) C.1 0 dJ9_init_14 rfl rfl ?_
  refine gk_qload_n (pc := 15) C.1 3 dJ9_init_15 rfl rfl ?_
  obtain ⟨ht, hw⟩ := hw
  refine gfp_J9_17 (pc := 16) (r := x3) C ht dJ9_init_16 (fun h_3 eh_3 => ?_)
  replace hw := hw h_3 eh_3
  refine gk_aload_n (pc := 19) C.1 0 dJ9_init_19 rfl rfl ?_
  refine gk_qload (pc := 20) C.1 4 dJ9_init_20 rfl ?_
  obtain ⟨ht, hw⟩ := hw
  refine gfp_J9_20 (pc := 22) (r := x4) C ht dJ9_init_22 (fun h_4 eh_4 => ?_)
  replace hw := hw h_4 eh_4
  exact gh_vret (pc := 25) C S0 hret dJ9_init_25 hw
/-! 33: java/util/LinkedHashMap$Entry.<init>(ILjava/lang/Object;Ljava/lang/Object;Ljava/util/HashMap$Node;)V -/
def wb_J10_init (cl : CT) (lm : Nat × Nat) (Q : QT) (E : ET) (x0 : Nat) (x1 : Int32) (x2 : Option Nat) (x3 : Option Nat) (x4 : Option Nat) (h : HS) : Prop := cl 32 (.ref x0 :: [.int x1, va_rf x2, va_rf x3, va_rf x4]) h (gV (fun h_1 => Q none h_1)) E
theorem wx_J10_init {l : Launch} (hst : l.stackTraces = false) {G : GG} {cl : CT} {lm : Nat × Nat} {Q : QT} {E : ET} {d2 : Nat} (hCl : CallsOK l G d2 cl ∧ hLm G lm ∧ 8 ≤ d2 ∧ LamsOK l G d2 cl) {x0 : Nat} {x1 : Int32} {x2 : Option Nat} {x3 : Option Nat} {x4 : Option Nat} {h : HS} (hw : wb_J10_init cl lm Q E x0 x1 x2 x3 x4 h) : HMet l G yJ10_init (ws_ yJ10_init cJ10_init 5 ((Option.none : Option Jvm.ClassFile.FieldType))) (d2 + 1) [.ref x0, .int x1, va_rf x2, va_rf x3, va_rf x4] h Q E := by
  refine gh_met (own := RJ10) rfl (by decide +kernel) hst (by simp only [lg_sl_i, lg_sl_r, lg_sl_a, lg_sl_2, lg_sl_f, lg_sl_0]; decide) (fun X hXl hXn hret hnm hTb h0 eh C S0 => ?_)
  subst hXl
  have hlm := hCl.2.1
  have hd8 := hCl.2.2.1
  have hd2 : 1 ≤ d2 := Nat.le_trans (by decide) hd8
  have hLa := hCl.2.2.2
  have hd1 : 1 ≤ d2 + 1 := Nat.le_add_left _ _
  have hC9 := hCl
  replace hCl := hCl.1
  have hini : (ev_h X).name = "<init>" := hnm.1
  unfold wb_J10_init at hw
  refine GK.sub (lv' := [(0, .ref x0), (1, .int x1), (2, va_rf x2), (3, va_rf x3), (4, va_rf x4)]) [0, 1, 2, 3, 4] (by simp only [lv_args_i, lv_args_r, lv_args_a, lv_args_l, lv_args_f, lv_args_0]; rfl) ?_
  refine gk_aload_n (pc := 0) C.1 0 dJ10_init_0 rfl rfl ?_
  refine gk_iload_n (pc := 1) C.1 1 dJ10_init_1 rfl rfl ?_
  refine gk_qload_n (pc := 2) C.1 2 dJ10_init_2 rfl rfl ?_
  refine gk_qload_n (pc := 3) C.1 3 dJ10_init_3 rfl rfl ?_
  refine gk_qload (pc := 4) C.1 4 dJ10_init_4 rfl ?_
  refine gc_J10_1 (pc := 6) (As := [.int x1, va_rf x2, va_rf x3, va_rf x4]) (rest := []) C hCl (Nat.le_refl _) hw rfl rfl (Nat.le_of_ble_eq_true rfl) dJ10_init_6 (fun v9 h_1 hp => ?_) (fun q_2 h_3 hw ht9 => ?_)
  rotate_left
  · exact gx_out C S0 (by rw [hTb]; decide) ht9 hw
  clear hw
  obtain ⟨rfl, hw⟩ := hp
  refine GK.at (p2 := 9) rfl ?_
  exact gh_vret (pc := 9) C S0 hret dJ10_init_9 hw
/-! 34: java/util/AbstractCollection.<init>()V -/
def wb_J12_init (cl : CT) (lm : Nat × Nat) (Q : QT) (E : ET) (x0 : Nat) (h : HS) : Prop := Q none h
theorem wx_J12_init {l : Launch} (hst : l.stackTraces = false) {G : GG} {cl : CT} {lm : Nat × Nat} {Q : QT} {E : ET} {d2 : Nat} (hCl : CallsOK l G d2 cl ∧ hLm G lm ∧ 8 ≤ d2 ∧ LamsOK l G d2 cl) {x0 : Nat} {h : HS} (hw : wb_J12_init cl lm Q E x0 h) : HMet l G yJ12_init (ws_ yJ12_init cJ12_init 1 ((Option.none : Option Jvm.ClassFile.FieldType))) (d2 + 1) [.ref x0] h Q E := by
  refine gh_met (own := RJ12) rfl (by decide +kernel) hst (by simp only [lg_sl_i, lg_sl_r, lg_sl_a, lg_sl_2, lg_sl_f, lg_sl_0]; decide) (fun X hXl hXn hret hnm hTb h0 eh C S0 => ?_)
  subst hXl
  have hlm := hCl.2.1
  have hd8 := hCl.2.2.1
  have hd2 : 1 ≤ d2 := Nat.le_trans (by decide) hd8
  have hLa := hCl.2.2.2
  have hd1 : 1 ≤ d2 + 1 := Nat.le_add_left _ _
  have hC9 := hCl
  replace hCl := hCl.1
  have hini : (ev_h X).name = "<init>" := hnm.1
  unfold wb_J12_init at hw
  refine GK.sub (lv' := [(0, .ref x0)]) [0] (by simp only [lv_args_i, lv_args_r, lv_args_a, lv_args_l, lv_args_f, lv_args_0]; rfl) ?_
  refine gk_aload_n (pc := 0) C.1 0 dJ12_init_0 rfl rfl ?_
  refine gh_obj (pc := 1) C hd1 q1040 (Nat.le_of_ble_eq_true rfl) dJ12_init_1 ?_
  exact gh_vret (pc := 4) C S0 hret dJ12_init_4 hw
/-! 35: java/util/AbstractSet.<init>()V -/
def wb_J13_init (cl : CT) (lm : Nat × Nat) (Q : QT) (E : ET) (x0 : Nat) (h : HS) : Prop := cl 34 (.ref x0 :: []) h (gV (fun h_1 => Q none h_1)) E
theorem wx_J13_init {l : Launch} (hst : l.stackTraces = false) {G : GG} {cl : CT} {lm : Nat × Nat} {Q : QT} {E : ET} {d2 : Nat} (hCl : CallsOK l G d2 cl ∧ hLm G lm ∧ 8 ≤ d2 ∧ LamsOK l G d2 cl) {x0 : Nat} {h : HS} (hw : wb_J13_init cl lm Q E x0 h) : HMet l G yJ13_init (ws_ yJ13_init cJ13_init 1 ((Option.none : Option Jvm.ClassFile.FieldType))) (d2 + 1) [.ref x0] h Q E := by
  refine gh_met (own := RJ13) rfl (by decide +kernel) hst (by simp only [lg_sl_i, lg_sl_r, lg_sl_a, lg_sl_2, lg_sl_f, lg_sl_0]; decide) (fun X hXl hXn hret hnm hTb h0 eh C S0 => ?_)
  subst hXl
  have hlm := hCl.2.1
  have hd8 := hCl.2.2.1
  have hd2 : 1 ≤ d2 := Nat.le_trans (by decide) hd8
  have hLa := hCl.2.2.2
  have hd1 : 1 ≤ d2 + 1 := Nat.le_add_left _ _
  have hC9 := hCl
  replace hCl := hCl.1
  have hini : (ev_h X).name = "<init>" := hnm.1
  unfold wb_J13_init at hw
  refine GK.sub (lv' := [(0, .ref x0)]) [0] (by simp only [lv_args_i, lv_args_r, lv_args_a, lv_args_l, lv_args_f, lv_args_0]; rfl) ?_
  refine gk_aload_n (pc := 0) C.1 0 dJ13_init_0 rfl rfl ?_
  refine gc_J13_1 (pc := 1) (As := []) (rest := []) C hCl (Nat.le_refl _) hw rfl rfl (Nat.le_of_ble_eq_true rfl) dJ13_init_1 (fun v9 h_1 hp => ?_) (fun q_2 h_3 hw ht9 => ?_)
  rotate_left
  · exact gx_out C S0 (by rw [hTb]; decide) ht9 hw
  clear hw
  obtain ⟨rfl, hw⟩ := hp
  refine GK.at (p2 := 4) rfl ?_
  exact gh_vret (pc := 4) C S0 hret dJ13_init_4 hw
/-! 36: java/util/LinkedHashMap$LinkedKeySet.<init>(Ljava/util/LinkedHashMap;Z)V -/
def wb_J14_init (cl : CT) (lm : Nat × Nat) (Q : QT) (E : ET) (x0 : Nat) (x1 : Option Nat) (x2 : Int32) (h : HS) : Prop := (hT h x0 = 23) ∧ (∀ h_1 : HS, h_1 = sR h 78 x0 x1 → (cl 35 (.ref x0 :: []) h_1 (gV (fun h_2 => (hT h_2 x0 = 23) ∧ (bz x2 ∧ (∀ h_5 : HS, h_5 = sI h_2 77 x0 x2 → (Q none h_5))))) E))
theorem wx_J14_init {l : Launch} (hst : l.stackTraces = false) {G : GG} {cl : CT} {lm : Nat × Nat} {Q : QT} {E : ET} {d2 : Nat} (hCl : CallsOK l G d2 cl ∧ hLm G lm ∧ 8 ≤ d2 ∧ LamsOK l G d2 cl) {x0 : Nat} {x1 : Option Nat} {x2 : Int32} {h : HS} (hw : wb_J14_init cl lm Q E x0 x1 x2 h) : HMet l G yJ14_init (ws_ yJ14_init cJ14_init 3 ((Option.none : Option Jvm.ClassFile.FieldType))) (d2 + 1) [.ref x0, va_rf x1, .int x2] h Q E := by
  refine gh_met (own := RJ14) rfl (by decide +kernel) hst (by simp only [lg_sl_i, lg_sl_r, lg_sl_a, lg_sl_2, lg_sl_f, lg_sl_0]; decide) (fun X hXl hXn hret hnm hTb h0 eh C S0 => ?_)
  subst hXl
  have hlm := hCl.2.1
  have hd8 := hCl.2.2.1
  have hd2 : 1 ≤ d2 := Nat.le_trans (by decide) hd8
  have hLa := hCl.2.2.2
  have hd1 : 1 ≤ d2 + 1 := Nat.le_add_left _ _
  have hC9 := hCl
  replace hCl := hCl.1
  have hini : (ev_h X).name = "<init>" := hnm.1
  unfold wb_J14_init at hw
  refine GK.sub (lv' := [(0, .ref x0), (1, va_rf x1), (2, .int x2)]) [0, 1, 2] (by simp only [lv_args_i, lv_args_r, lv_args_a, lv_args_l, lv_args_f, lv_args_0]; rfl) ?_
  refine gk_aload_n (pc := 0) C.1 0 dJ14_init_0 rfl rfl ?_
  refine gk_qload_n (pc := 1) C.1 1 dJ14_init_1 rfl rfl ?_
  obtain ⟨ht, hw⟩ := hw
  refine gfp_J14_1 (pc := 2) (r := x1) C hini ht dJ14_init_2 (fun h_1 eh_1 => ?_)
  replace hw := hw h_1 eh_1
  refine gk_aload_n (pc := 5) C.1 0 dJ14_init_5 rfl rfl ?_
  refine gc_J14_7 (pc := 6) (As := []) (rest := []) C hCl (Nat.le_refl _) hw rfl rfl (Nat.le_of_ble_eq_true rfl) dJ14_init_6 (fun v9 h_2 hp => ?_) (fun q_3 h_4 hw ht9 => ?_)
  rotate_left
  · exact gx_out C S0 (by rw [hTb]; decide) ht9 hw
  clear hw
  obtain ⟨rfl, hw⟩ := hp
  refine GK.at (p2 := 9) rfl ?_
  refine gk_aload_n (pc := 9) C.1 0 dJ14_init_9 rfl rfl ?_
  refine gk_iload_n (pc := 10) C.1 2 dJ14_init_10 rfl rfl ?_
  obtain ⟨ht, hw⟩ := hw
  obtain ⟨hz, hw⟩ := hw
  refine gfp_J14_13 (pc := 11) C hini hz ht dJ14_init_11 (fun h_5 eh_5 => ?_)
  replace hw := hw h_5 eh_5
  exact gh_vret (pc := 14) C S0 hret dJ14_init_14 hw
/-! 37: java/util/LinkedHashMap$LinkedKeySet.iterator()Ljava/util/Iterator; -/
def wb_J14_iterator (cl : CT) (lm : Nat × Nat) (Q : QT) (E : ET) (x0 : Nat) (h : HS) : Prop := hZ h + 1 ≤ lm.1 ∧ (hL h + 5 ≤ lm.2 ∧ (∀ (a_2 : Nat) (h_1 : HS), a_2 = hZ h → h_1 = hNew h 24 0 5 → ((hT h_1 x0 = 23) ∧ (∀ r_3 : Option Nat, r_3 = hR h_1 78 x0 → ((hT h_1 x0 = 23) ∧ (cl 41 (.ref a_2 :: [va_rf r_3, .int (hI h_1 77 x0)]) h_1 (gV (fun h_4 => Q (some (va_rf (some a_2))) h_4)) E))))))
theorem wx_J14_iterator {l : Launch} (hst : l.stackTraces = false) {G : GG} {cl : CT} {lm : Nat × Nat} {Q : QT} {E : ET} {d2 : Nat} (hCl : CallsOK l G d2 cl ∧ hLm G lm ∧ 8 ≤ d2 ∧ LamsOK l G d2 cl) {x0 : Nat} {h : HS} (hw : wb_J14_iterator cl lm Q E x0 h) : HMet l G yJ14_iterator (ws_ yJ14_iterator cJ14_iterator 1 ((Option.some (Jvm.ClassFile.FieldType.object "java/util/Iterator")))) (d2 + 1) [.ref x0] h Q E := by
  refine gh_met (own := RJ14) rfl (by decide +kernel) hst (by simp only [lg_sl_i, lg_sl_r, lg_sl_a, lg_sl_2, lg_sl_f, lg_sl_0]; decide) (fun X hXl hXn hret hnm hTb h0 eh C S0 => ?_)
  subst hXl
  have hlm := hCl.2.1
  have hd8 := hCl.2.2.1
  have hd2 : 1 ≤ d2 := Nat.le_trans (by decide) hd8
  have hLa := hCl.2.2.2
  have hd1 : 1 ≤ d2 + 1 := Nat.le_add_left _ _
  have hC9 := hCl
  replace hCl := hCl.1
  have hini : True := trivial
  unfold wb_J14_iterator at hw
  refine GK.sub (lv' := [(0, .ref x0)]) [0] (by simp only [lv_args_i, lv_args_r, lv_args_a, lv_args_l, lv_args_f, lv_args_0]; rfl) ?_
  obtain ⟨hr1, hr2, hw⟩ := hw
  refine gn_J14_26 (pc := 0) C (hlm.1 ▸ hr1) (hlm.2 ▸ hr2) dJ14_iterator_0 (fun h_1 eh_1 => ?_)
  obtain ⟨a_2, ea_2⟩ : ∃ z : Nat, z = hZ h := ⟨_, rfl⟩
  rw [← ea_2]
  replace hw := hw a_2 h_1 ea_2 eh_1
  refine gk_dup (pc := 3) C.1 dJ14_iterator_3 rfl ?_
  refine gk_aload_n (pc := 4) C.1 0 dJ14_iterator_4 rfl rfl ?_
  obtain ⟨ht, hw⟩ := hw
  refine gf_J14_1 (pc := 5) C ht dJ14_iterator_5 (fun r_3 er_3 => ?_)
  replace hw := hw r_3 er_3
  refine gk_aload_n (pc := 8) C.1 0 dJ14_iterator_8 rfl rfl ?_
  obtain ⟨ht, hw⟩ := hw
  refine gf_J14_13 (pc := 9) C ht dJ14_iterator_9 ?_
  refine gc_J14_28 (pc := 12) (As := [va_rf r_3, .int (hI h_1 77 x0)]) (rest := [.ref a_2]) C hCl (Nat.le_refl _) hw rfl rfl (Nat.le_of_ble_eq_true rfl) dJ14_iterator_12 (fun v9 h_4 hp => ?_) (fun q_5 h_6 hw ht9 => ?_)
  rotate_left
  · exact gx_out C S0 (by rw [hTb]; decide) ht9 hw
  clear hw
  obtain ⟨rfl, hw⟩ := hp
  refine GK.at (p2 := 15) rfl ?_
  exact gh_aret (pc := 15) (r := (some a_2)) C S0 hret (Or.inl ⟨_, rfl⟩) dJ14_iterator_15 hw
/-! 38: java/util/LinkedHashMap$LinkedHashIterator.hasNext()Z -/
def wb_J18_hasNext (cl : CT) (lm : Nat × Nat) (Q : QT) (E : ET) (x0 : Nat) (h : HS) : Prop := (hT h x0 = 24) ∧ (∀ r_1 : Option Nat, r_1 = hR h 79 x0 → ((r_1 = none → (Q (some (.int 0)) h)) ∧ (∀ a_3 : Nat, r_1 = some a_3 → (Q (some (.int 1)) h))))
theorem wx_J18_hasNext {l : Launch} (hst : l.stackTraces = false) {G : GG} {cl : CT} {lm : Nat × Nat} {Q : QT} {E : ET} {d2 : Nat} (hCl : CallsOK l G d2 cl ∧ hLm G lm ∧ 8 ≤ d2 ∧ LamsOK l G d2 cl) {x0 : Nat} {h : HS} (hw : wb_J18_hasNext cl lm Q E x0 h) : HMet l G yJ18_hasNext (ws_ yJ18_hasNext cJ18_hasNext 1 ((Option.some Jvm.ClassFile.FieldType.boolean))) (d2 + 1) [.ref x0] h Q E := by
  refine gh_met (own := RJ18) rfl (by decide +kernel) hst (by simp only [lg_sl_i, lg_sl_r, lg_sl_a, lg_sl_2, lg_sl_f, lg_sl_0]; decide) (fun X hXl hXn hret hnm hTb h0 eh C S0 => ?_)
  subst hXl
  have hlm := hCl.2.1
  have hd8 := hCl.2.2.1
  have hd2 : 1 ≤ d2 := Nat.le_trans (by decide) hd8
  have hLa := hCl.2.2.2
  have hd1 : 1 ≤ d2 + 1 := Nat.le_add_left _ _
  have hC9 := hCl
  replace hCl := hCl.1
  have hini : True := trivial
  unfold wb_J18_hasNext at hw
  refine GK.sub (lv' := [(0, .ref x0)]) [0] (by simp only [lv_args_i, lv_args_r, lv_args_a, lv_args_l, lv_args_f, lv_args_0]; rfl) ?_
  refine gk_aload_n (pc := 0) C.1 0 dJ18_hasNext_0 rfl rfl ?_
  obtain ⟨ht, hw⟩ := hw
  refine gf_J18_26 (pc := 1) C ht dJ18_hasNext_1 (fun r_1 er_1 => ?_)
  replace hw := hw r_1 er_1
  refine gk_ifnull (pc := 4) (tgt := 11) C.1 dJ18_hasNext_4 (by decide) (fun c_2 => ?_) (fun c_2 => ?_)
  · replace hw := hw.1 c_2
    subst c_2
    refine gk_iconst (pc := 11) (v := 0) C.1 dJ18_hasNext_11 (by decide) ?_
    exact gh_zret (pc := 12) C S0 hret dJ18_hasNext_12 bz0 hw
  · obtain ⟨a_3, c_2⟩ := Option.ne_none_iff_exists'.mp c_2
    replace hw := hw.2 a_3 c_2
    subst c_2
    refine gk_iconst (pc := 7) (v := 1) C.1 dJ18_hasNext_7 (by decide) ?_
    refine gk_goto (pc := 8) (tgt := 12) C.1 dJ18_hasNext_8 (by decide) ?_
    exact gh_zret (pc := 12) C S0 hret dJ18_hasNext_12 bz1 hw
/-! 39: java/util/LinkedHashMap$LinkedHashIterator.<init>(Ljava/util/LinkedHashMap;Z)V -/
def wb_J18_init_30 (cl : CT) (lm : Nat × Nat) (Q : QT) (E : ET) (x0 : Nat) (x1 : Option Nat) (s0 : Nat) (s1 : Option Nat) (h : HS) : Prop := (hT h s0 = 24) ∧ (∀ h_1 : HS, h_1 = sR h 79 s0 s1 → (∃ a_2 : Nat, x1 = some a_2 ∧ ((hT h_1 a_2 = 19 ∨ hT h_1 a_2 = 20) ∧ ((hT h_1 x0 = 24) ∧ (∀ h_3 : HS, h_3 = sI h_1 81 x0 (hI h_1 64 a_2) → ((hT h_3 x0 = 24) ∧ (∀ h_4 : HS, h_4 = sR h_3 80 x0 none → (Q none h_4))))))))
theorem wk_J18_init_30 {X : Ev} {G : GG} {cl : CT} {lm : Nat × Nat} {Q : QT} {E : ET} {h0 : HS} {d2 : Nat} (C : HC X G RJ18 cJ18_init (d2 + 1)) (hCl : CallsOK (ev_l X) G d2 cl ∧ hLm G lm ∧ 8 ≤ d2 ∧ LamsOK (ev_l X) G d2 cl) (S0 : HS0 X h0) (hret : (ev_h X).sig.returnType = (Option.none : Option Jvm.ClassFile.FieldType)) (hXn : ev_n X = 3) (hini : (ev_h X).name = "<init>") (hTb : (ev_c X).exceptionTable.toList = []) : ∀ (x0 : Nat) (x1 : Option Nat) (s0 : Nat) (s1 : Option Nat) (h : HS), wb_J18_init_30 cl lm Q E x0 x1 s0 s1 h → GH X G h (hQ X G h0 Q E) 30 [(0, .ref x0), (1, va_rf x1)] [va_rf s1, .ref s0] := by
  have hlm := hCl.2.1
  have hd8 := hCl.2.2.1
  have hd2 : 1 ≤ d2 := Nat.le_trans (by decide) hd8
  have hLa := hCl.2.2.2
  have hd1 : 1 ≤ d2 + 1 := Nat.le_add_left _ _
  have hC9 := hCl
  replace hCl := hCl.1
  intro x0 x1 s0 s1 h hw
  unfold wb_J18_init_30 at hw
  obtain ⟨ht, hw⟩ := hw
  refine gfp_J18_26 (pc := 30) (r := s1) C ht dJ18_init_30 (fun h_1 eh_1 => ?_)
  replace hw := hw h_1 eh_1
  refine gk_aload_n (pc := 33) C.1 0 dJ18_init_33 rfl rfl ?_
  refine gk_qload_n (pc := 34) C.1 1 dJ18_init_34 rfl rfl ?_
  obtain ⟨a_2, rfl, hw⟩ := hw
  obtain ⟨ht, hw⟩ := hw
  refine gf_J18_29 (pc := 35) C ht dJ18_init_35 ?_
  obtain ⟨ht, hw⟩ := hw
  refine gfp_J18_33 (pc := 38) C ht dJ18_init_38 (fun h_3 eh_3 => ?_)
  replace hw := hw h_3 eh_3
  refine gk_aload_n (pc := 41) C.1 0 dJ18_init_41 rfl rfl ?_
  refine gk_null (pc := 42) C.1 dJ18_init_42 ?_
  obtain ⟨ht, hw⟩ := hw
  refine gfp_J18_36 (pc := 43) (r := none) C ht dJ18_init_43 (fun h_4 eh_4 => ?_)
  replace hw := hw h_4 eh_4
  exact gh_vret (pc := 46) C S0 hret dJ18_init_46 hw
def wb_J18_init (cl : CT) (lm : Nat × Nat) (Q : QT) (E : ET) (x0 : Nat) (x1 : Option Nat) (x2 : Int32) (h : HS) : Prop := (hT h x0 = 24) ∧ (∀ h_1 : HS, h_1 = sR h 83 x0 x1 → ((hT h_1 x0 = 24) ∧ (bz x2 ∧ (∀ h_2 : HS, h_2 = sI h_1 82 x0 x2 → (((x2 = 0 → (∃ a_4 : Nat, x1 = some a_4 ∧ ((hT h_2 a_4 = 20) ∧ (∀ r_5 : Option Nat, r_5 = hR h_2 67 a_4 → (wb_J18_init_30 cl lm Q E x0 (some a_4) x0 r_5 h_2))))) ∧ (¬ x2 = 0 → (∃ a_6 : Nat, x1 = some a_6 ∧ ((hT h_2 a_6 = 20) ∧ (∀ r_7 : Option Nat, r_7 = hR h_2 68 a_6 → (wb_J18_init_30 cl lm Q E x0 (some a_6) x0 r_7 h_2)))))))))))
theorem wx_J18_init {l : Launch} (hst : l.stackTraces = false) {G : GG} {cl : CT} {lm : Nat × Nat} {Q : QT} {E : ET} {d2 : Nat} (hCl : CallsOK l G d2 cl ∧ hLm G lm ∧ 8 ≤ d2 ∧ LamsOK l G d2 cl) {x0 : Nat} {x1 : Option Nat} {x2 : Int32} {h : HS} (hw : wb_J18_init cl lm Q E x0 x1 x2 h) : HMet l G yJ18_init (ws_ yJ18_init cJ18_init 3 ((Option.none : Option Jvm.ClassFile.FieldType))) (d2 + 1) [.ref x0, va_rf x1, .int x2] h Q E := by
  refine gh_met (own := RJ18) rfl (by decide +kernel) hst (by simp only [lg_sl_i, lg_sl_r, lg_sl_a, lg_sl_2, lg_sl_f, lg_sl_0]; decide) (fun X hXl hXn hret hnm hTb h0 eh C S0 => ?_)
  subst hXl
  have hlm := hCl.2.1
  have hd8 := hCl.2.2.1
  have hd2 : 1 ≤ d2 := Nat.le_trans (by decide) hd8
  have hLa := hCl.2.2.2
  have hd1 : 1 ≤ d2 + 1 := Nat.le_add_left _ _
  have hC9 := hCl
  replace hCl := hCl.1
  have hini : (ev_h X).name = "<init>" := hnm.1
  unfold wb_J18_init at hw
  refine GK.sub (lv' := [(0, .ref x0), (1, va_rf x1), (2, .int x2)]) [0, 1, 2] (by simp only [lv_args_i, lv_args_r, lv_args_a, lv_args_l, lv_args_f, lv_args_0]; rfl) ?_
  refine gk_aload_n (pc := 0) C.1 0 dJ18_init_0 rfl rfl ?_
  refine gk_qload_n (pc := 1) C.1 1 dJ18_init_1 rfl rfl ?_
  obtain ⟨ht, hw⟩ := hw
  refine gfp_J18_1 (pc := 2) (r := x1) C hini ht dJ18_init_2 (fun h_1 eh_1 => ?_)
  replace hw := hw h_1 eh_1
  refine gk_aload_n (pc := 5) C.1 0 dJ18_init_5 rfl rfl ?_
  refine gh_obj (pc := 6) C hd1 q1122 (Nat.le_of_ble_eq_true rfl) dJ18_init_6 ?_
  refine gk_aload_n (pc := 9) C.1 0 dJ18_init_9 rfl rfl ?_
  refine gk_iload_n (pc := 10) C.1 2 dJ18_init_10 rfl rfl ?_
  obtain ⟨ht, hw⟩ := hw
  obtain ⟨hz, hw⟩ := hw
  refine gfp_J18_13 (pc := 11) C hz ht dJ18_init_11 (fun h_2 eh_2 => ?_)
  replace hw := hw h_2 eh_2
  refine gk_aload_n (pc := 14) C.1 0 dJ18_init_14 rfl rfl ?_
  refine gk_iload_n (pc := 15) C.1 2 dJ18_init_15 rfl rfl ?_
  refine gk_if_eq (pc := 16) (tgt := 26) C.1 dJ18_init_16 (by decide) (fun c_3 => ?_) (fun c_3 => ?_)
  · replace hw := hw.1 c_3
    refine gk_qload_n (pc := 26) C.1 1 dJ18_init_26 rfl rfl ?_
    obtain ⟨a_4, rfl, hw⟩ := hw
    obtain ⟨ht, hw⟩ := hw
    refine gf_J18_23 (pc := 27) C ht dJ18_init_27 (fun r_5 er_5 => ?_)
    replace hw := hw r_5 er_5
    refine GK.sub (lv' := [(0, .ref x0), (1, va_rf (some a_4))]) [0, 1] rfl ?_
    exact wk_J18_init_30 C hC9 S0 hret hXn hini hTb  _ _ _ _ _ hw
  · replace hw := hw.2 c_3
    refine gk_qload_n (pc := 19) C.1 1 dJ18_init_19 rfl rfl ?_
    obtain ⟨a_6, rfl, hw⟩ := hw
    obtain ⟨ht, hw⟩ := hw
    refine gf_J18_17 (pc := 20) C ht dJ18_init_20 (fun r_7 er_7 => ?_)
    replace hw := hw r_7 er_7
    refine gk_goto (pc := 23) (tgt := 30) C.1 dJ18_init_23 (by decide) ?_
    refine GK.sub (lv' := [(0, .ref x0), (1, va_rf (some a_6))]) [0, 1] rfl ?_
    exact wk_J18_init_30 C hC9 S0 hret hXn hini hTb  _ _ _ _ _ hw
