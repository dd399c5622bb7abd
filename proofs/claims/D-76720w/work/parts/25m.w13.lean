set_option maxRecDepth 100000
/-! 240: GathersAllFaults$Row.at(I)LGathersAllFaults$Placed; -/
def wb_X18_at_20 (cl : CT) (lm : Nat × Nat) (Q : QT) (E : ET) (x2 : Option Nat) (s0 : Int32) (h : HS) : Prop := cl 104 [.int s0, .int (-1)] h (gV (fun h_1 => ck_GathersAllFaults_Placed h_1 x2 ∧ (Q (some (va_rf x2)) h_1))) (fun q_2 h_3 => hT h_3 q_2 = 16 ∧ E q_2 h_3)
theorem wk_X18_at_20 {X : Ev} {G : GG} {cl : CT} {lm : Nat × Nat} {Q : QT} {E : ET} {h0 : HS} {d2 : Nat} (C : HC X G RX18 cX18_at (d2 + 1)) (hCl : CallsOK (ev_l X) G d2 cl ∧ hLm G lm ∧ 8 ≤ d2 ∧ LamsOK (ev_l X) G d2 cl) (S0 : HS0 X h0) (hret : (ev_h X).sig.returnType = (Option.some (Jvm.ClassFile.FieldType.object "GathersAllFaults$Placed"))) (hXn : ev_n X = 3) (hini : True) (hTb : (ev_c X).exceptionTable.toList = tableOf [(0, 28, 29, 31)]) : ∀ (x2 : Option Nat) (s0 : Int32) (h : HS), wb_X18_at_20 cl lm Q E x2 s0 h → GH X G h (hQ X G h0 Q E) 20 [(2, va_rf x2)] [.int s0] := by
  have hlm := hCl.2.1
  have hd8 := hCl.2.2.1
  have hd2 : 1 ≤ d2 := Nat.le_trans (by decide) hd8
  have hLa := hCl.2.2.2
  have hd1 : 1 ≤ d2 + 1 := Nat.le_add_left _ _
  have hC9 := hCl
  replace hCl := hCl.1
  intro x2 s0 h hw
  unfold wb_X18_at_20 at hw
  refine gk_iconst (pc := 20) (v := (-1)) C.1 dX18_at_20 (by decide) ?_
  refine gc_X18_25 (pc := 21) (As := [.int s0, .int (-1)]) (rest := []) C hCl (Nat.le_refl _) hw rfl rfl (Nat.le_of_ble_eq_true rfl) dX18_at_21 (fun v9 h_1 hp => ?_) (fun q_2 h_3 hw ht9 => ?_)
  rotate_left
  · exact gx_outP C S0 (by rw [hTb]; intro z hz; simp only [tableOf, List.map_cons, List.map_nil, List.mem_cons, List.not_mem_nil, or_false] at hz; subst hz; exact Or.inr ⟨by decide, _, q1473, by decide +kernel⟩) hw.1 hw.2
  clear hw
  obtain ⟨rfl, hw⟩ := hp
  refine GK.at (p2 := 24) rfl ?_
  refine gk_qload_n (pc := 24) C.1 0 dX18_at_24 rfl rfl ?_
  obtain ⟨hs, hw⟩ := hw
  refine gh_ckc (pc := 25) (r := x2) C q1506 (ck_GathersAllFaults_Placed_ok hs) dX18_at_25 ?_
  exact gh_aret (pc := 28) (r := x2) C S0 hret (Or.inl ⟨_, rfl⟩) dX18_at_28 hw
def wb_X18_at_29 (cl : CT) (lm : Nat × Nat) (Q : QT) (E : ET) (s0 : Nat) (h : HS) : Prop := hZ h + 1 ≤ lm.1 ∧ (hL h + 7 ≤ lm.2 ∧ (∀ (a_2 : Nat) (h_1 : HS), a_2 = hZ h → h_1 = hNew h 16 0 7 → (cl 175 (.ref a_2 :: [.int (-1)]) h_1 (gV (fun h_3 => (hT h_3 a_2 = 16 ∨ hT h_3 a_2 = 17) ∧ (E a_2 h_3))) E)))
theorem wk_X18_at_29 {X : Ev} {G : GG} {cl : CT} {lm : Nat × Nat} {Q : QT} {E : ET} {h0 : HS} {d2 : Nat} (C : HC X G RX18 cX18_at (d2 + 1)) (hCl : CallsOK (ev_l X) G d2 cl ∧ hLm G lm ∧ 8 ≤ d2 ∧ LamsOK (ev_l X) G d2 cl) (S0 : HS0 X h0) (hret : (ev_h X).sig.returnType = (Option.some (Jvm.ClassFile.FieldType.object "GathersAllFaults$Placed"))) (hXn : ev_n X = 3) (hini : True) (hTb : (ev_c X).exceptionTable.toList = tableOf [(0, 28, 29, 31)]) : ∀ (s0 : Nat) (h : HS), wb_X18_at_29 cl lm Q E s0 h → GH X G h (hQ X G h0 Q E) 29 [] [.ref s0] := by
  have hlm := hCl.2.1
  have hd8 := hCl.2.2.1
  have hd2 : 1 ≤ d2 := Nat.le_trans (by decide) hd8
  have hLa := hCl.2.2.2
  have hd1 : 1 ≤ d2 + 1 := Nat.le_add_left _ _
  have hC9 := hCl
  replace hCl := hCl.1
  intro s0 h hw
  unfold wb_X18_at_29 at hw
  refine gk_astore_n (pc := 29) (lv' := [(2, Value.ref s0)]) C.1 dX18_at_29 rfl (by rw [hXn]; decide) (by first | rfl | simp [va_rf_S, va_rf_cat, cat_i, cat_a, cat_l, cat_f, fin4_0, fin4_1, fin4_2, fin4_3]) ?_
  obtain ⟨hr1, hr2, hw⟩ := hw
  refine gn_X18_33 (pc := 30) C (hlm.1 ▸ hr1) (hlm.2 ▸ hr2) dX18_at_30 (fun h_1 eh_1 => ?_)
  obtain ⟨a_2, ea_2⟩ : ∃ z : Nat, z = hZ h := ⟨_, rfl⟩
  rw [← ea_2]
  replace hw := hw a_2 h_1 ea_2 eh_1
  refine gk_dup (pc := 33) C.1 dX18_at_33 rfl ?_
  refine gk_iconst (pc := 34) (v := (-1)) C.1 dX18_at_34 (by decide) ?_
  refine gc_X18_35 (pc := 35) (As := [.int (-1)]) (rest := [.ref a_2]) C hCl (Nat.le_refl _) hw rfl rfl (Nat.le_of_ble_eq_true rfl) dX18_at_35 (fun v9 h_3 hp => ?_) (fun q_4 h_5 hw ht9 => ?_)
  rotate_left
  · exact gx_out C S0 (by rw [hTb]; decide) ht9 hw
  clear hw
  obtain ⟨rfl, hw⟩ := hp
  refine GK.at (p2 := 38) rfl ?_
  refine gh_athrow (pc := 38) C dX18_at_38 ?_
  obtain ⟨ht9, hw⟩ := hw
  exact gx_out C S0 (by rw [hTb]; decide) ht9 hw
def wb_X18_at (cl : CT) (lm : Nat × Nat) (Q : QT) (E : ET) (x0 : Nat) (x1 : Int32) (h : HS) : Prop := (hT h x0 = 7) ∧ (∀ r_1 : Option Nat, r_1 = hR h 23 x0 → (∃ a_2 : Nat, r_1 = some a_2 ∧ ((vp_in x1 (hN h a_2) → (hT h a_2 = 111 ∧ (∀ r_3 : Option Nat, r_3 = hB h a_2 x1.toNatClampNeg → ((hT h x0 = 7) ∧ ((((hI h 24 x0) ≤ x1 → (wb_X18_at_20 cl lm Q E r_3 0 h)) ∧ (¬ (hI h 24 x0) ≤ x1 → (wb_X18_at_20 cl lm Q E r_3 1 h)))))))) ∧ (¬ vp_in x1 (hN h a_2) → (hT h a_2 = 111 ∧ (hN h a_2 < 2147483648 ∧ hZ h + 3 ≤ lm.1 ∧ (hL h + 222 ≤ lm.2 ∧ (∀ (z_5 : Nat) (h_4 : HS), hVm h h_4 → (wb_X18_at_29 cl lm Q E z_5 h_4)))))))))
theorem wx_X18_at {l : Launch} (hst : l.stackTraces = false) {G : GG} {cl : CT} {lm : Nat × Nat} {Q : QT} {E : ET} {d2 : Nat} (hCl : CallsOK l G d2 cl ∧ hLm G lm ∧ 8 ≤ d2 ∧ LamsOK l G d2 cl) {x0 : Nat} {x1 : Int32} {h : HS} (hw : wb_X18_at cl lm Q E x0 x1 h) : HMet l G yX18_at (wsW_ yX18_at cX18_at 3 ((Option.some (Jvm.ClassFile.FieldType.object "GathersAllFaults$Placed"))) [(0, 28, 29, 31)]) (d2 + 1) [.ref x0, .int x1] h Q E := by
  refine gh_metW (own := RX18) rfl (by decide +kernel) hst (by simp only [lg_sl_i, lg_sl_r, lg_sl_a, lg_sl_2, lg_sl_f, lg_sl_0]; decide) (fun X hXl hXn hret hnm hTb h0 eh C S0 => ?_)
  subst hXl
  have hlm := hCl.2.1
  have hd8 := hCl.2.2.1
  have hd2 : 1 ≤ d2 := Nat.le_trans (by decide) hd8
  have hLa := hCl.2.2.2
  have hd1 : 1 ≤ d2 + 1 := Nat.le_add_left _ _
  have hC9 := hCl
  replace hCl := hCl.1
  have hini : True := trivial
  unfold wb_X18_at at hw
  refine GK.sub (lv' := [(0, .ref x0), (1, .int x1)]) [0, 1] (by simp only [lv_args_i, lv_args_r, lv_args_a, lv_args_l, lv_args_f, lv_args_0]; rfl) ?_
  refine gk_aload_n (pc := 0) C.1 0 dX18_at_0 rfl rfl ?_
  obtain ⟨ht, hw⟩ := hw
  refine gf_X18_9 (pc := 1) C ht dX18_at_1 (fun r_1 er_1 => ?_)
  replace hw := hw r_1 er_1
  refine gk_iload_n (pc := 4) C.1 1 dX18_at_4 rfl rfl ?_
  obtain ⟨a_2, rfl, hw⟩ := hw
  by_cases hi : vp_in x1 (hN h a_2)
  · obtain ⟨ht, hw⟩ := hw.1 hi
    refine gh_aald (pc := 5) (t0 := 3) (E := "java/lang/Object") C ht (by decide) (by decide) rfl hi dX18_at_5 ?_
    obtain ⟨r_3, er_3⟩ : ∃ z : Option Nat, z = hB h a_2 x1.toNatClampNeg := ⟨_, rfl⟩
    rw [← er_3]
    replace hw := hw r_3 er_3
    refine gk_qstore_n (pc := 6) (lv' := [(2, va_rf r_3), (0, Value.ref x0), (1, Value.int x1)]) C.1 dX18_at_6 rfl (by rw [hXn]; decide) (by first | rfl | simp [va_rf_S, va_rf_cat, cat_i, cat_a, cat_l, cat_f, fin4_0, fin4_1, fin4_2, fin4_3]) ?_
    refine gk_iload_n (pc := 7) C.1 2 dX18_at_7 rfl rfl ?_
    refine gk_aload_n (pc := 8) C.1 1 dX18_at_8 rfl rfl ?_
    obtain ⟨ht, hw⟩ := hw
    refine gf_X18_15 (pc := 9) C ht dX18_at_9 ?_
    refine gk_icmp_ge (pc := 12) (tgt := 19) C.1 dX18_at_12 (by decide) (fun c_6 => ?_) (fun c_6 => ?_)
    · replace hw := hw.1 c_6
      refine gk_iconst (pc := 19) (v := 0) C.1 dX18_at_19 (by decide) ?_
      refine GK.sub (lv' := [(2, va_rf r_3)]) [0] rfl ?_
      exact wk_X18_at_20 C hC9 S0 hret hXn hini hTb  _ _ _ hw
    · replace hw := hw.2 c_6
      refine gk_iconst (pc := 15) (v := 1) C.1 dX18_at_15 (by decide) ?_
      refine gk_goto (pc := 16) (tgt := 20) C.1 dX18_at_16 (by decide) ?_
      refine GK.sub (lv' := [(2, va_rf r_3)]) [0] rfl ?_
      exact wk_X18_at_20 C hC9 S0 hret hXn hini hTb  _ _ _ hw
  · obtain ⟨ht, hnb, hr1, hr2, hw⟩ := hw.2 hi
    refine gh_aaOut C hTb ht hi hnb (hlm.1 ▸ hr1) (hlm.2 ▸ hr2) hd8 dX18_at_5 (fun z_5 h_4 eh_4 => ?_)
    replace hw := hw z_5 h_4 eh_4
    refine GK.sub (lv' := []) [] rfl ?_
    exact wk_X18_at_29 C hC9 S0 hret hXn hini hTb  _ _ hw
/-! 241: GathersAllFaults$Row.below(I)I -/
def wb_X18_below_35 (cl : CT) (lm : Nat × Nat) (Q : QT) (E : ET) (J4 : Nat → Int32 → Int32 → Int32 → HS → Prop) (x0 : Nat) (x1 : Int32) (x3 : Int32) (s0 : Int32) (s1 : Int32) (h : HS) : Prop := ∀ x_1 : Int32, x_1 = s0 + s1 → (∀ x_2 : Int32, x_2 = x3 + 1 → (J4 x0 x1 x_1 x_2 h))
theorem wk_X18_below_35 {X : Ev} {G : GG} {cl : CT} {lm : Nat × Nat} {Q : QT} {E : ET} {h0 : HS} {d2 : Nat} {J4 : Nat → Int32 → Int32 → Int32 → HS → Prop} (C : HC X G RX18 cX18_below (d2 + 1)) (hCl : CallsOK (ev_l X) G d2 cl ∧ hLm G lm ∧ 8 ≤ d2 ∧ LamsOK (ev_l X) G d2 cl) (S0 : HS0 X h0) (hret : (ev_h X).sig.returnType = (Option.some Jvm.ClassFile.FieldType.int)) (hXn : ev_n X = 4) (hini : True) (hTb : (ev_c X).exceptionTable.toList = []) (hJ4 : ∀ (x0 : Nat) (x1 : Int32) (x2 : Int32) (x3 : Int32) (h : HS), J4 x0 x1 x2 x3 h → GH X G h (hQ X G h0 Q E) 4 [(0, .ref x0), (1, .int x1), (2, .int x2), (3, .int x3)] []) : ∀ (x0 : Nat) (x1 : Int32) (x3 : Int32) (s0 : Int32) (s1 : Int32) (h : HS), wb_X18_below_35 cl lm Q E J4 x0 x1 x3 s0 s1 h → GH X G h (hQ X G h0 Q E) 35 [(0, .ref x0), (1, .int x1), (3, .int x3)] [.int s1, .int s0] := by
  have hlm := hCl.2.1
  have hd8 := hCl.2.2.1
  have hd2 : 1 ≤ d2 := Nat.le_trans (by decide) hd8
  have hLa := hCl.2.2.2
  have hd1 : 1 ≤ d2 + 1 := Nat.le_add_left _ _
  have hC9 := hCl
  replace hCl := hCl.1
  intro x0 x1 x3 s0 s1 h hw
  unfold wb_X18_below_35 at hw
  refine gk_iadd (pc := 35) C.1 dX18_below_35 ?_
  obtain ⟨x_1, ex_1⟩ : ∃ z : Int32, z = s0 + s1 := ⟨_, rfl⟩
  rw [← ex_1]
  replace hw := hw x_1 ex_1
  refine gk_istore_n (pc := 36) (lv' := [(2, Value.int x_1), (0, Value.ref x0), (1, Value.int x1), (3, Value.int x3)]) C.1 dX18_below_36 rfl (by rw [hXn]; decide) (by first | rfl | simp [va_rf_S, va_rf_cat, cat_i, cat_a, cat_l, cat_f, fin4_0, fin4_1, fin4_2, fin4_3]) ?_
  obtain ⟨x_2, ex_2⟩ : ∃ z : Int32, z = x3 + 1 := ⟨_, rfl⟩
  replace hw := hw x_2 ex_2
  refine gk_iinc (pc := 37) (v := x_2) (lv' := [(3, Value.int x_2), (2, Value.int x_1), (0, Value.ref x0), (1, Value.int x1)]) C.1 3 dX18_below_37 rfl (by rw [ex_2]; rfl) (by rw [hXn]; decide) (by first | rfl | simp [va_rf_S, va_rf_cat, cat_i, cat_a, cat_l, cat_f, fin4_0, fin4_1, fin4_2, fin4_3]) ?_
  refine gk_goto (pc := 40) (tgt := 4) C.1 dX18_below_40 (by decide) ?_
  refine GK.sub (lv' := [(0, .ref x0), (1, .int x1), (2, .int x_1), (3, .int x_2)]) [2, 3, 1, 0] rfl ?_
  exact hJ4 _ _ _ _ _ hw
def wb_X18_below_4 (cl : CT) (lm : Nat × Nat) (Q : QT) (E : ET) : Nat → Nat → Int32 → Int32 → Int32 → HS → Prop
  | 0 => fun _ _ _ _ _ => False
  | n + 1 => fun x0 x1 x2 x3 h => (hT h x0 = 7) ∧ ((((hI h 24 x0) ≤ x3 → (Q (some (.int x2)) h)) ∧ (¬ (hI h 24 x0) ≤ x3 → (dp_Row_at cl x0 [.int x3] h (gR (fun r_3 h_2 => ∃ a_6 : Nat, r_3 = some a_6 ∧ (dp_Placed_path cl a_6 [] h_2 (gI (fun r_8 h_7 => cl 80 [.int r_8, .int x1] h_7 (gI (fun r_12 h_11 => ((r_12 = 0 → (wb_X18_below_35 cl lm Q E (fun yx0 yx1 yx2 yx3 yh => wb_X18_below_4 cl lm Q E n yx0 yx1 yx2 yx3 yh) x0 x1 x3 x2 0 h_11)) ∧ (¬ r_12 = 0 → (wb_X18_below_35 cl lm Q E (fun yx0 yx1 yx2 yx3 yh => wb_X18_below_4 cl lm Q E n yx0 yx1 yx2 yx3 yh) x0 x1 x3 x2 1 h_11))))) E)) E))) E))))
theorem wk_X18_below_4 {X : Ev} {G : GG} {cl : CT} {lm : Nat × Nat} {Q : QT} {E : ET} {h0 : HS} {d2 : Nat} (C : HC X G RX18 cX18_below (d2 + 1)) (hCl : CallsOK (ev_l X) G d2 cl ∧ hLm G lm ∧ 8 ≤ d2 ∧ LamsOK (ev_l X) G d2 cl) (S0 : HS0 X h0) (hret : (ev_h X).sig.returnType = (Option.some Jvm.ClassFile.FieldType.int)) (hXn : ev_n X = 4) (hini : True) (hTb : (ev_c X).exceptionTable.toList = []) : ∀ (n : Nat) (x0 : Nat) (x1 : Int32) (x2 : Int32) (x3 : Int32) (h : HS), wb_X18_below_4 cl lm Q E n x0 x1 x2 x3 h → GH X G h (hQ X G h0 Q E) 4 [(0, .ref x0), (1, .int x1), (2, .int x2), (3, .int x3)] [] := by
  have hlm := hCl.2.1
  have hd8 := hCl.2.2.1
  have hd2 : 1 ≤ d2 := Nat.le_trans (by decide) hd8
  have hLa := hCl.2.2.2
  have hd1 : 1 ≤ d2 + 1 := Nat.le_add_left _ _
  have hC9 := hCl
  replace hCl := hCl.1
  intro n
  induction n with
  | zero => intro x0 x1 x2 x3 h hw; exact hw.elim
  | succ n ih =>
  intro x0 x1 x2 x3 h hw
  unfold wb_X18_below_4 at hw
  refine gk_iload_n (pc := 4) C.1 3 dX18_below_4 rfl rfl ?_
  refine gk_aload_n (pc := 5) C.1 0 dX18_below_5 rfl rfl ?_
  obtain ⟨ht, hw⟩ := hw
  refine gf_X18_15 (pc := 6) C ht dX18_below_6 ?_
  refine gk_icmp_ge (pc := 9) (tgt := 43) C.1 dX18_below_9 (by decide) (fun c_1 => ?_) (fun c_1 => ?_)
  · replace hw := hw.1 c_1
    refine gk_iload_n (pc := 43) C.1 2 dX18_below_43 rfl rfl ?_
    exact gh_iret (pc := 44) C S0 hret dX18_below_44 hw
  · replace hw := hw.2 c_1
    refine gk_iload_n (pc := 12) C.1 2 dX18_below_12 rfl rfl ?_
    refine gk_aload_n (pc := 13) C.1 0 dX18_below_13 rfl rfl ?_
    refine gk_iload_n (pc := 14) C.1 3 dX18_below_14 rfl rfl ?_
    refine gc_X18_38 (pc := 15) (As := [.int x3]) (rest := [.int x2]) C hCl (Nat.le_refl _) hw rfl rfl (Nat.le_of_ble_eq_true rfl) dX18_below_15 (fun v9 h_2 hp => ?_) (fun q_4 h_5 hw ht9 => ?_)
    rotate_left
    · exact gx_out C S0 (by rw [hTb]; decide) ht9 hw
    clear hw
    obtain ⟨r_3, rfl, hw⟩ := hp
    refine GK.at (p2 := 18) rfl ?_
    obtain ⟨a_6, rfl, hw⟩ := hw
    refine gc_X18_46 (pc := 18) (As := []) (rest := [.int x2]) C hCl (Nat.le_refl _) hw rfl rfl (Nat.le_of_ble_eq_true rfl) dX18_below_18 (fun v9 h_7 hp => ?_) (fun q_9 h_10 hw ht9 => ?_)
    rotate_left
    · exact gx_out C S0 (by rw [hTb]; decide) ht9 hw
    clear hw
    obtain ⟨r_8, rfl, hw⟩ := hp
    refine GK.at (p2 := 23) rfl ?_
    refine gk_iload_n (pc := 23) C.1 1 dX18_below_23 rfl rfl ?_
    refine gc_X18_50 (pc := 24) (As := [.int r_8, .int x1]) (rest := [.int x2]) C hCl (Nat.le_refl _) hw rfl rfl (Nat.le_of_ble_eq_true rfl) dX18_below_24 (fun v9 h_11 hp => ?_) (fun q_13 h_14 hw ht9 => ?_)
    rotate_left
    · exact gx_out C S0 (by rw [hTb]; decide) ht9 hw
    clear hw
    obtain ⟨r_12, rfl, hw⟩ := hp
    refine GK.at (p2 := 27) rfl ?_
    refine gk_if_eq (pc := 27) (tgt := 34) C.1 dX18_below_27 (by decide) (fun c_15 => ?_) (fun c_15 => ?_)
    · replace hw := hw.1 c_15
      refine gk_iconst (pc := 34) (v := 0) C.1 dX18_below_34 (by decide) ?_
      refine GK.sub (lv' := [(0, .ref x0), (1, .int x1), (3, .int x3)]) [0, 1, 3] rfl ?_
      exact wk_X18_below_35 C hC9 S0 hret hXn hini hTb ih _ _ _ _ _ _ hw
    · replace hw := hw.2 c_15
      refine gk_iconst (pc := 30) (v := 1) C.1 dX18_below_30 (by decide) ?_
      refine gk_goto (pc := 31) (tgt := 35) C.1 dX18_below_31 (by decide) ?_
      refine GK.sub (lv' := [(0, .ref x0), (1, .int x1), (3, .int x3)]) [0, 1, 3] rfl ?_
      exact wk_X18_below_35 C hC9 S0 hret hXn hini hTb ih _ _ _ _ _ _ hw
def wb_X18_below (cl : CT) (lm : Nat × Nat) (Q : QT) (E : ET) (x0 : Nat) (x1 : Int32) (h : HS) : Prop := ∃ fu : Nat, wb_X18_below_4 cl lm Q E fu x0 x1 0 0 h
theorem wx_X18_below {l : Launch} (hst : l.stackTraces = false) {G : GG} {cl : CT} {lm : Nat × Nat} {Q : QT} {E : ET} {d2 : Nat} (hCl : CallsOK l G d2 cl ∧ hLm G lm ∧ 8 ≤ d2 ∧ LamsOK l G d2 cl) {x0 : Nat} {x1 : Int32} {h : HS} (hw : wb_X18_below cl lm Q E x0 x1 h) : HMet l G yX18_below (ws_ yX18_below cX18_below 4 ((Option.some Jvm.ClassFile.FieldType.int))) (d2 + 1) [.ref x0, .int x1] h Q E := by
  refine gh_met (own := RX18) rfl (by decide +kernel) hst (by simp only [lg_sl_i, lg_sl_r, lg_sl_a, lg_sl_2, lg_sl_f, lg_sl_0]; decide) (fun X hXl hXn hret hnm hTb h0 eh C S0 => ?_)
  subst hXl
  have hlm := hCl.2.1
  have hd8 := hCl.2.2.1
  have hd2 : 1 ≤ d2 := Nat.le_trans (by decide) hd8
  have hLa := hCl.2.2.2
  have hd1 : 1 ≤ d2 + 1 := Nat.le_add_left _ _
  have hC9 := hCl
  replace hCl := hCl.1
  have hini : True := trivial
  unfold wb_X18_below at hw
  refine GK.sub (lv' := [(0, .ref x0), (1, .int x1)]) [0, 1] (by simp only [lv_args_i, lv_args_r, lv_args_a, lv_args_l, lv_args_f, lv_args_0]; rfl) ?_
  refine gk_iconst (pc := 0) (v := 0) C.1 dX18_below_0 (by decide) ?_
  refine gk_istore_n (pc := 1) (lv' := [(2, Value.int 0), (0, Value.ref x0), (1, Value.int x1)]) C.1 dX18_below_1 rfl (by rw [hXn]; decide) (by first | rfl | simp [va_rf_S, va_rf_cat, cat_i, cat_a, cat_l, cat_f, fin4_0, fin4_1, fin4_2, fin4_3]) ?_
  refine gk_iconst (pc := 2) (v := 0) C.1 dX18_below_2 (by decide) ?_
  refine gk_istore_n (pc := 3) (lv' := [(3, Value.int 0), (2, Value.int 0), (0, Value.ref x0), (1, Value.int x1)]) C.1 dX18_below_3 rfl (by rw [hXn]; decide) (by first | rfl | simp [va_rf_S, va_rf_cat, cat_i, cat_a, cat_l, cat_f, fin4_0, fin4_1, fin4_2, fin4_3]) ?_
  refine GK.sub (lv' := [(0, .ref x0), (1, .int x1), (2, .int 0), (3, .int 0)]) [2, 3, 1, 0] rfl ?_
  obtain ⟨n9, hw⟩ := hw
  exact wk_X18_below_4 C hC9 S0 hret hXn hini hTb  n9 _ _ _ _ _ hw
/-! 242: GathersAllFaults$Row.empties()V -/
def wb_X18_empties (cl : CT) (lm : Nat × Nat) (Q : QT) (E : ET) (x0 : Nat) (h : HS) : Prop := (hT h x0 = 7) ∧ (∀ h_1 : HS, h_1 = sI h 24 x0 0 → (Q none h_1))
theorem wx_X18_empties {l : Launch} (hst : l.stackTraces = false) {G : GG} {cl : CT} {lm : Nat × Nat} {Q : QT} {E : ET} {d2 : Nat} (hCl : CallsOK l G d2 cl ∧ hLm G lm ∧ 8 ≤ d2 ∧ LamsOK l G d2 cl) {x0 : Nat} {h : HS} (hw : wb_X18_empties cl lm Q E x0 h) : HMet l G yX18_empties (ws_ yX18_empties cX18_empties 1 ((Option.none : Option Jvm.ClassFile.FieldType))) (d2 + 1) [.ref x0] h Q E := by
  refine gh_met (own := RX18) rfl (by decide +kernel) hst (by simp only [lg_sl_i, lg_sl_r, lg_sl_a, lg_sl_2, lg_sl_f, lg_sl_0]; decide) (fun X hXl hXn hret hnm hTb h0 eh C S0 => ?_)
  subst hXl
  have hlm := hCl.2.1
  have hd8 := hCl.2.2.1
  have hd2 : 1 ≤ d2 := Nat.le_trans (by decide) hd8
  have hLa := hCl.2.2.2
  have hd1 : 1 ≤ d2 + 1 := Nat.le_add_left _ _
  have hC9 := hCl
  replace hCl := hCl.1
  have hini : True := trivial
  unfold wb_X18_empties at hw
  refine GK.sub (lv' := [(0, .ref x0)]) [0] (by simp only [lv_args_i, lv_args_r, lv_args_a, lv_args_l, lv_args_f, lv_args_0]; rfl) ?_
  refine gk_aload_n (pc := 0) C.1 0 dX18_empties_0 rfl rfl ?_
  refine gk_iconst (pc := 1) (v := 0) C.1 dX18_empties_1 (by decide) ?_
  obtain ⟨ht, hw⟩ := hw
  refine gfp_X18_15 (pc := 2) C ht dX18_empties_2 (fun h_1 eh_1 => ?_)
  replace hw := hw h_1 eh_1
  exact gh_vret (pc := 5) C S0 hret dX18_empties_5 hw
/-! 243: GathersAllFaults$Row.<init>()V -/
def wb_X18_init (cl : CT) (lm : Nat × Nat) (Q : QT) (E : ET) (x0 : Nat) (h : HS) : Prop := ¬ (8 : Int32) < 0 ∧ ((8 : Int32).toNatClampNeg * 4 ≤ 536870912 ∧ (hZ h + 1 ≤ lm.1 ∧ (hL h + (8 : Int32).toNatClampNeg ≤ lm.2 ∧ (∀ (a_2 : Nat) (h_1 : HS), a_2 = hZ h → h_1 = hNew h 111 (8 : Int32).toNatClampNeg (8 : Int32).toNatClampNeg → ((hT h_1 x0 = 7) ∧ (∀ h_3 : HS, h_3 = sR h_1 23 x0 (some a_2) → (Q none h_3)))))))
theorem wx_X18_init {l : Launch} (hst : l.stackTraces = false) {G : GG} {cl : CT} {lm : Nat × Nat} {Q : QT} {E : ET} {d2 : Nat} (hCl : CallsOK l G d2 cl ∧ hLm G lm ∧ 8 ≤ d2 ∧ LamsOK l G d2 cl) {x0 : Nat} {h : HS} (hw : wb_X18_init cl lm Q E x0 h) : HMet l G yX18_init (ws_ yX18_init cX18_init 1 ((Option.none : Option Jvm.ClassFile.FieldType))) (d2 + 1) [.ref x0] h Q E := by
  refine gh_met (own := RX18) rfl (by decide +kernel) hst (by simp only [lg_sl_i, lg_sl_r, lg_sl_a, lg_sl_2, lg_sl_f, lg_sl_0]; decide) (fun X hXl hXn hret hnm hTb h0 eh C S0 => ?_)
  subst hXl
  have hlm := hCl.2.1
  have hd8 := hCl.2.2.1
  have hd2 : 1 ≤ d2 := Nat.le_trans (by decide) hd8
  have hLa := hCl.2.2.2
  have hd1 : 1 ≤ d2 + 1 := Nat.le_add_left _ _
  have hC9 := hCl
  replace hCl := hCl.1
  have hini : (ev_h X).name = "<init>" := hnm.1
  unfold wb_X18_init at hw
  refine GK.sub (lv' := [(0, .ref x0)]) [0] (by simp only [lv_args_i, lv_args_r, lv_args_a, lv_args_l, lv_args_f, lv_args_0]; rfl) ?_
  refine gk_aload_n (pc := 0) C.1 0 dX18_init_0 rfl rfl ?_
  refine gh_obj (pc := 1) C hd1 q1416 (Nat.le_of_ble_eq_true rfl) dX18_init_1 ?_
  refine gk_aload_n (pc := 4) C.1 0 dX18_init_4 rfl rfl ?_
  refine gk_bipush (pc := 5) (v := 8) C.1 dX18_init_5 (by decide) ?_
  obtain ⟨hn0, hby, hr1, hr2, hw⟩ := hw
  refine gh_anew (pc := 7) (t := 111) (t0 := 3) (E := "java/lang/Object") C ⟨by decide, by decide⟩ rfl q1292 q1293 hn0 hby (hlm.1 ▸ hr1) (hlm.2 ▸ hr2) dX18_init_7 ?_
  obtain ⟨h_1, eh_1⟩ : ∃ z : HS, z = hNew h 111 (8 : Int32).toNatClampNeg (8 : Int32).toNatClampNeg := ⟨_, rfl⟩
  rw [← eh_1]
  obtain ⟨a_2, ea_2⟩ : ∃ z : Nat, z = hZ h := ⟨_, rfl⟩
  rw [← ea_2]
  replace hw := hw a_2 h_1 ea_2 eh_1
  obtain ⟨ht, hw⟩ := hw
  refine gfp_X18_9 (pc := 10) (r := (some a_2)) C ht dX18_init_10 (fun h_3 eh_3 => ?_)
  replace hw := hw h_3 eh_3
  exact gh_vret (pc := 13) C S0 hret dX18_init_13 hw
/-! 244: GathersAllFaults$Part.<init>(ILGathersAllFaults$Value;)V -/
def wb_X19_init (cl : CT) (lm : Nat × Nat) (Q : QT) (E : ET) (x0 : Nat) (x1 : Int32) (x2 : Option Nat) (h : HS) : Prop := (hT h x0 = 6) ∧ (∀ h_1 : HS, h_1 = sI h 21 x0 x1 → ((hT h_1 x0 = 6) ∧ (∀ h_2 : HS, h_2 = sR h_1 22 x0 x2 → (Q none h_2))))
theorem wx_X19_init {l : Launch} (hst : l.stackTraces = false) {G : GG} {cl : CT} {lm : Nat × Nat} {Q : QT} {E : ET} {d2 : Nat} (hCl : CallsOK l G d2 cl ∧ hLm G lm ∧ 8 ≤ d2 ∧ LamsOK l G d2 cl) {x0 : Nat} {x1 : Int32} {x2 : Option Nat} {h : HS} (hw : wb_X19_init cl lm Q E x0 x1 x2 h) : HMet l G yX19_init (ws_ yX19_init cX19_init 3 ((Option.none : Option Jvm.ClassFile.FieldType))) (d2 + 1) [.ref x0, .int x1, va_rf x2] h Q E := by
  refine gh_met (own := RX19) rfl (by decide +kernel) hst (by simp only [lg_sl_i, lg_sl_r, lg_sl_a, lg_sl_2, lg_sl_f, lg_sl_0]; decide) (fun X hXl hXn hret hnm hTb h0 eh C S0 => ?_)
  subst hXl
  have hlm := hCl.2.1
  have hd8 := hCl.2.2.1
  have hd2 : 1 ≤ d2 := Nat.le_trans (by decide) hd8
  have hLa := hCl.2.2.2
  have hd1 : 1 ≤ d2 + 1 := Nat.le_add_left _ _
  have hC9 := hCl
  replace hCl := hCl.1
  have hini : (ev_h X).name = "<init>" := hnm.1
  unfold wb_X19_init at hw
  refine GK.sub (lv' := [(0, .ref x0), (1, .int x1), (2, va_rf x2)]) [0, 1, 2] (by simp only [lv_args_i, lv_args_r, lv_args_a, lv_args_l, lv_args_f, lv_args_0]; rfl) ?_
  refine gk_aload_n (pc := 0) C.1 0 dX19_init_0 rfl rfl ?_
  refine gh_obj (pc := 1) C hd1 q1612 (Nat.le_of_ble_eq_true rfl) dX19_init_1 ?_
  refine gk_aload_n (pc := 4) C.1 0 dX19_init_4 rfl rfl ?_
  refine gk_iload_n (pc := 5) C.1 1 dX19_init_5 rfl rfl ?_
  obtain ⟨ht, hw⟩ := hw
  refine gfp_X19_7 (pc := 6) C hini ht dX19_init_6 (fun h_1 eh_1 => ?_)
  replace hw := hw h_1 eh_1
  refine gk_aload_n (pc := 9) C.1 0 dX19_init_9 rfl rfl ?_
  refine gk_qload_n (pc := 10) C.1 2 dX19_init_10 rfl rfl ?_
  obtain ⟨ht, hw⟩ := hw
  refine gfp_X19_13 (pc := 11) (r := x2) C hini ht dX19_init_11 (fun h_2 eh_2 => ?_)
  replace hw := hw h_2 eh_2
  exact gh_vret (pc := 14) C S0 hret dX19_init_14 hw
/-! 245: GathersAllFaults$Part.path()I -/
def wb_X19_path (cl : CT) (lm : Nat × Nat) (Q : QT) (E : ET) (x0 : Nat) (h : HS) : Prop := (hT h x0 = 6) ∧ (Q (some (.int (hI h 21 x0))) h)
theorem wx_X19_path {l : Launch} (hst : l.stackTraces = false) {G : GG} {cl : CT} {lm : Nat × Nat} {Q : QT} {E : ET} {d2 : Nat} (hCl : CallsOK l G d2 cl ∧ hLm G lm ∧ 8 ≤ d2 ∧ LamsOK l G d2 cl) {x0 : Nat} {h : HS} (hw : wb_X19_path cl lm Q E x0 h) : HMet l G yX19_path (ws_ yX19_path cX19_path 1 ((Option.some Jvm.ClassFile.FieldType.int))) (d2 + 1) [.ref x0] h Q E := by
  refine gh_met (own := RX19) rfl (by decide +kernel) hst (by simp only [lg_sl_i, lg_sl_r, lg_sl_a, lg_sl_2, lg_sl_f, lg_sl_0]; decide) (fun X hXl hXn hret hnm hTb h0 eh C S0 => ?_)
  subst hXl
  have hlm := hCl.2.1
  have hd8 := hCl.2.2.1
  have hd2 : 1 ≤ d2 := Nat.le_trans (by decide) hd8
  have hLa := hCl.2.2.2
  have hd1 : 1 ≤ d2 + 1 := Nat.le_add_left _ _
  have hC9 := hCl
  replace hCl := hCl.1
  have hini : True := trivial
  unfold wb_X19_path at hw
  refine GK.sub (lv' := [(0, .ref x0)]) [0] (by simp only [lv_args_i, lv_args_r, lv_args_a, lv_args_l, lv_args_f, lv_args_0]; rfl) ?_
  refine gk_aload_n (pc := 0) C.1 0 dX19_path_0 rfl rfl ?_
  obtain ⟨ht, hw⟩ := hw
  refine gf_X19_7 (pc := 1) C ht dX19_path_1 ?_
  exact gh_iret (pc := 4) C S0 hret dX19_path_4 hw
/-! 246: GathersAllFaults$Tally.<init>(I)V -/
def wb_X20_init (cl : CT) (lm : Nat × Nat) (Q : QT) (E : ET) (x0 : Nat) (x1 : Int32) (h : HS) : Prop := (hT h x0 = 18) ∧ (∀ h_1 : HS, h_1 = sI h 58 x0 x1 → (Q none h_1))
theorem wx_X20_init {l : Launch} (hst : l.stackTraces = false) {G : GG} {cl : CT} {lm : Nat × Nat} {Q : QT} {E : ET} {d2 : Nat} (hCl : CallsOK l G d2 cl ∧ hLm G lm ∧ 8 ≤ d2 ∧ LamsOK l G d2 cl) {x0 : Nat} {x1 : Int32} {h : HS} (hw : wb_X20_init cl lm Q E x0 x1 h) : HMet l G yX20_init (ws_ yX20_init cX20_init 2 ((Option.none : Option Jvm.ClassFile.FieldType))) (d2 + 1) [.ref x0, .int x1] h Q E := by
  refine gh_met (own := RX20) rfl (by decide +kernel) hst (by simp only [lg_sl_i, lg_sl_r, lg_sl_a, lg_sl_2, lg_sl_f, lg_sl_0]; decide) (fun X hXl hXn hret hnm hTb h0 eh C S0 => ?_)
  subst hXl
  have hlm := hCl.2.1
  have hd8 := hCl.2.2.1
  have hd2 : 1 ≤ d2 := Nat.le_trans (by decide) hd8
  have hLa := hCl.2.2.2
  have hd1 : 1 ≤ d2 + 1 := Nat.le_add_left _ _
  have hC9 := hCl
  replace hCl := hCl.1
  have hini : (ev_h X).name = "<init>" := hnm.1
  unfold wb_X20_init at hw
  refine GK.sub (lv' := [(0, .ref x0), (1, .int x1)]) [0, 1] (by simp only [lv_args_i, lv_args_r, lv_args_a, lv_args_l, lv_args_f, lv_args_0]; rfl) ?_
  refine gk_aload_n (pc := 0) C.1 0 dX20_init_0 rfl rfl ?_
  refine gh_obj (pc := 1) C hd1 q1836 (Nat.le_of_ble_eq_true rfl) dX20_init_1 ?_
  refine gk_aload_n (pc := 4) C.1 0 dX20_init_4 rfl rfl ?_
  refine gk_iload_n (pc := 5) C.1 1 dX20_init_5 rfl rfl ?_
  obtain ⟨ht, hw⟩ := hw
  refine gfp_X20_7 (pc := 6) C hini ht dX20_init_6 (fun h_1 eh_1 => ?_)
  replace hw := hw h_1 eh_1
  exact gh_vret (pc := 9) C S0 hret dX20_init_9 hw
