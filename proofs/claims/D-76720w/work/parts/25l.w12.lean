set_option maxRecDepth 100000
/-! 220: GathersAllFaults$Lst.total()I -/
def wb_X12_total_13 (cl : CT) (lm : Nat × Nat) (Q : QT) (E : ET) : Nat → Int32 → Option Nat → Int32 → Int32 → HS → Prop
  | 0 => fun _ _ _ _ _ => False
  | n + 1 => fun x1 x2 x3 x4 h => ((x3 ≤ x4 → (Q (some (.int x1)) h)) ∧ (¬ x3 ≤ x4 → (∃ a_2 : Nat, x2 = some a_2 ∧ (hT h a_2 = 114 ∧ (vp_in x4 (hN h a_2) ∧ (∀ r_3 : Option Nat, r_3 = hB h a_2 x4.toNatClampNeg → (∃ a_4 : Nat, r_3 = some a_4 ∧ (dp_Value_total cl a_4 [] h (gI (fun r_6 h_5 => ∀ x_9 : Int32, x_9 = x1 + r_6 → (∀ x_10 : Int32, x_10 = x4 + 1 → (wb_X12_total_13 cl lm Q E n x_9 (some a_2) x3 x_10 h_5)))) E))))))))
theorem wk_X12_total_13 {X : Ev} {G : GG} {cl : CT} {lm : Nat × Nat} {Q : QT} {E : ET} {h0 : HS} {d2 : Nat} (C : HC X G RX12 cX12_total (d2 + 1)) (hCl : CallsOK (ev_l X) G d2 cl ∧ hLm G lm ∧ 8 ≤ d2 ∧ LamsOK (ev_l X) G d2 cl) (S0 : HS0 X h0) (hret : (ev_h X).sig.returnType = (Option.some Jvm.ClassFile.FieldType.int)) (hXn : ev_n X = 6) (hini : True) (hTb : (ev_c X).exceptionTable.toList = []) : ∀ (n : Nat) (x1 : Int32) (x2 : Option Nat) (x3 : Int32) (x4 : Int32) (h : HS), wb_X12_total_13 cl lm Q E n x1 x2 x3 x4 h → GH X G h (hQ X G h0 Q E) 13 [(1, .int x1), (2, va_rf x2), (3, .int x3), (4, .int x4)] [] := by
  have hlm := hCl.2.1
  have hd8 := hCl.2.2.1
  have hd2 : 1 ≤ d2 := Nat.le_trans (by decide) hd8
  have hLa := hCl.2.2.2
  have hd1 : 1 ≤ d2 + 1 := Nat.le_add_left _ _
  have hC9 := hCl
  replace hCl := hCl.1
  intro n
  induction n with
  | zero => intro x1 x2 x3 x4 h hw; exact hw.elim
  | succ n ih =>
  intro x1 x2 x3 x4 h hw
  unfold wb_X12_total_13 at hw
  refine gk_iload (pc := 13) C.1 3 dX12_total_13 rfl ?_
  refine gk_iload_n (pc := 15) C.1 2 dX12_total_15 rfl rfl ?_
  refine gk_icmp_ge (pc := 16) (tgt := 39) C.1 dX12_total_16 (by decide) (fun c_1 => ?_) (fun c_1 => ?_)
  · replace hw := hw.1 c_1
    refine gk_iload_n (pc := 39) C.1 0 dX12_total_39 rfl rfl ?_
    exact gh_iret (pc := 40) C S0 hret dX12_total_40 hw
  · replace hw := hw.2 c_1
    refine gk_qload_n (pc := 19) C.1 1 dX12_total_19 rfl rfl ?_
    refine gk_iload (pc := 20) C.1 3 dX12_total_20 rfl ?_
    obtain ⟨a_2, rfl, hw⟩ := hw
    obtain ⟨ht, hi, hw⟩ := hw
    refine gh_aald (pc := 22) (t0 := 6) (E := "GathersAllFaults$Value") C ht (by decide) (by decide) rfl hi dX12_total_22 ?_
    obtain ⟨r_3, er_3⟩ : ∃ z : Option Nat, z = hB h a_2 x4.toNatClampNeg := ⟨_, rfl⟩
    rw [← er_3]
    replace hw := hw r_3 er_3
    refine gk_qstore (pc := 23) (lv' := [(5, va_rf r_3), (1, Value.int x1), (2, Value.ref a_2), (3, Value.int x3), (4, Value.int x4)]) C.1 dX12_total_23 (by rw [hXn]; decide) (by first | rfl | simp [va_rf_S, va_rf_cat, cat_i, cat_a, cat_l, cat_f, fin4_0, fin4_1, fin4_2, fin4_3]) ?_
    refine gk_iload_n (pc := 25) C.1 1 dX12_total_25 rfl rfl ?_
    refine gk_qload (pc := 26) C.1 0 dX12_total_26 rfl ?_
    obtain ⟨a_4, rfl, hw⟩ := hw
    refine gc_X12_23 (pc := 28) (As := []) (rest := [.int x1]) C hCl (Nat.le_refl _) hw rfl rfl (Nat.le_of_ble_eq_true rfl) dX12_total_28 (fun v9 h_5 hp => ?_) (fun q_7 h_8 hw ht9 => ?_)
    rotate_left
    · exact gx_out C S0 (by rw [hTb]; decide) ht9 hw
    clear hw
    obtain ⟨r_6, rfl, hw⟩ := hp
    refine GK.at (p2 := 31) rfl ?_
    refine gk_iadd (pc := 31) C.1 dX12_total_31 ?_
    obtain ⟨x_9, ex_9⟩ : ∃ z : Int32, z = x1 + r_6 := ⟨_, rfl⟩
    rw [← ex_9]
    replace hw := hw x_9 ex_9
    refine gk_istore_n (pc := 32) (lv' := [(1, Value.int x_9), (5, Value.ref a_4), (2, Value.ref a_2), (3, Value.int x3), (4, Value.int x4)]) C.1 dX12_total_32 rfl (by rw [hXn]; decide) (by first | rfl | simp [va_rf_S, va_rf_cat, cat_i, cat_a, cat_l, cat_f, fin4_0, fin4_1, fin4_2, fin4_3]) ?_
    obtain ⟨x_10, ex_10⟩ : ∃ z : Int32, z = x4 + 1 := ⟨_, rfl⟩
    replace hw := hw x_10 ex_10
    refine gk_iinc (pc := 33) (v := x_10) (lv' := [(4, Value.int x_10), (1, Value.int x_9), (5, Value.ref a_4), (2, Value.ref a_2), (3, Value.int x3)]) C.1 4 dX12_total_33 rfl (by rw [ex_10]; rfl) (by rw [hXn]; decide) (by first | rfl | simp [va_rf_S, va_rf_cat, cat_i, cat_a, cat_l, cat_f, fin4_0, fin4_1, fin4_2, fin4_3]) ?_
    refine gk_goto (pc := 36) (tgt := 13) C.1 dX12_total_36 (by decide) ?_
    refine GK.sub (lv' := [(1, .int x_9), (2, va_rf (some a_2)), (3, .int x3), (4, .int x_10)]) [1, 3, 4, 0] rfl ?_
    exact ih _ _ _ _ _ hw
def wb_X12_total (cl : CT) (lm : Nat × Nat) (Q : QT) (E : ET) (x0 : Nat) (h : HS) : Prop := (hT h x0 = 5) ∧ (∀ r_1 : Option Nat, r_1 = hR h 20 x0 → (∃ a_2 : Nat, r_1 = some a_2 ∧ (hT h a_2 = 114 ∧ (∀ x_3 : Int32, x_3 = nI (hN h a_2) → (∃ fu : Nat, wb_X12_total_13 cl lm Q E fu 0 (some a_2) x_3 0 h)))))
theorem wx_X12_total {l : Launch} (hst : l.stackTraces = false) {G : GG} {cl : CT} {lm : Nat × Nat} {Q : QT} {E : ET} {d2 : Nat} (hCl : CallsOK l G d2 cl ∧ hLm G lm ∧ 8 ≤ d2 ∧ LamsOK l G d2 cl) {x0 : Nat} {h : HS} (hw : wb_X12_total cl lm Q E x0 h) : HMet l G yX12_total (ws_ yX12_total cX12_total 6 ((Option.some Jvm.ClassFile.FieldType.int))) (d2 + 1) [.ref x0] h Q E := by
  refine gh_met (own := RX12) rfl (by decide +kernel) hst (by simp only [lg_sl_i, lg_sl_r, lg_sl_a, lg_sl_2, lg_sl_f, lg_sl_0]; decide) (fun X hXl hXn hret hnm hTb h0 eh C S0 => ?_)
  subst hXl
  have hlm := hCl.2.1
  have hd8 := hCl.2.2.1
  have hd2 : 1 ≤ d2 := Nat.le_trans (by decide) hd8
  have hLa := hCl.2.2.2
  have hd1 : 1 ≤ d2 + 1 := Nat.le_add_left _ _
  have hC9 := hCl
  replace hCl := hCl.1
  have hini : True := trivial
  unfold wb_X12_total at hw
  refine GK.sub (lv' := [(0, .ref x0)]) [0] (by simp only [lv_args_i, lv_args_r, lv_args_a, lv_args_l, lv_args_f, lv_args_0]; rfl) ?_
  refine gk_iconst (pc := 0) (v := 0) C.1 dX12_total_0 (by decide) ?_
  refine gk_istore_n (pc := 1) (lv' := [(1, Value.int 0), (0, Value.ref x0)]) C.1 dX12_total_1 rfl (by rw [hXn]; decide) (by first | rfl | simp [va_rf_S, va_rf_cat, cat_i, cat_a, cat_l, cat_f, fin4_0, fin4_1, fin4_2, fin4_3]) ?_
  refine gk_aload_n (pc := 2) C.1 1 dX12_total_2 rfl rfl ?_
  obtain ⟨ht, hw⟩ := hw
  refine gf_X12_9 (pc := 3) C ht dX12_total_3 (fun r_1 er_1 => ?_)
  replace hw := hw r_1 er_1
  refine gk_qstore_n (pc := 6) (lv' := [(2, va_rf r_1), (1, Value.int 0), (0, Value.ref x0)]) C.1 dX12_total_6 rfl (by rw [hXn]; decide) (by first | rfl | simp [va_rf_S, va_rf_cat, cat_i, cat_a, cat_l, cat_f, fin4_0, fin4_1, fin4_2, fin4_3]) ?_
  refine gk_qload_n (pc := 7) C.1 0 dX12_total_7 rfl rfl ?_
  obtain ⟨a_2, rfl, hw⟩ := hw
  obtain ⟨ht, hw⟩ := hw
  refine gh_len (pc := 8) (t0 := 6) (ty := tyA 114) C ht (by decide) rfl dX12_total_8 ?_
  obtain ⟨x_3, ex_3⟩ : ∃ z : Int32, z = nI (hN h a_2) := ⟨_, rfl⟩
  rw [← ex_3]
  replace hw := hw x_3 ex_3
  refine gk_istore_n (pc := 9) (lv' := [(3, Value.int x_3), (2, Value.ref a_2), (1, Value.int 0), (0, Value.ref x0)]) C.1 dX12_total_9 rfl (by rw [hXn]; decide) (by first | rfl | simp [va_rf_S, va_rf_cat, cat_i, cat_a, cat_l, cat_f, fin4_0, fin4_1, fin4_2, fin4_3]) ?_
  refine gk_iconst (pc := 10) (v := 0) C.1 dX12_total_10 (by decide) ?_
  refine gk_istore (pc := 11) (lv' := [(4, Value.int 0), (3, Value.int x_3), (2, Value.ref a_2), (1, Value.int 0), (0, Value.ref x0)]) C.1 dX12_total_11 (by rw [hXn]; decide) (by first | rfl | simp [va_rf_S, va_rf_cat, cat_i, cat_a, cat_l, cat_f, fin4_0, fin4_1, fin4_2, fin4_3]) ?_
  refine GK.sub (lv' := [(1, .int 0), (2, va_rf (some a_2)), (3, .int x_3), (4, .int 0)]) [3, 2, 1, 0] rfl ?_
  obtain ⟨n9, hw⟩ := hw
  exact wk_X12_total_13 C hC9 S0 hret hXn hini hTb  n9 _ _ _ _ _ hw
/-! 221: GathersAllFaults$Lst.with(ILGathersAllFaults$Value;)LGathersAllFaults$Value; -/
def wb_X12_with_80 (cl : CT) (lm : Nat × Nat) (Q : QT) (E : ET) (J36 : Nat → Option Nat → Int32 → Nat → Int32 → Int32 → HS → Prop) (x0 : Nat) (x2 : Option Nat) (x3 : Int32) (x4 : Nat) (x5 : Int32) (x6 : Int32) (h : HS) : Prop := ∀ x_1 : Int32, x_1 = x6 + 1 → (J36 x0 x2 x3 x4 x5 x_1 h)
theorem wk_X12_with_80 {X : Ev} {G : GG} {cl : CT} {lm : Nat × Nat} {Q : QT} {E : ET} {h0 : HS} {d2 : Nat} {J36 : Nat → Option Nat → Int32 → Nat → Int32 → Int32 → HS → Prop} (C : HC X G RX12 cX12_with (d2 + 1)) (hCl : CallsOK (ev_l X) G d2 cl ∧ hLm G lm ∧ 8 ≤ d2 ∧ LamsOK (ev_l X) G d2 cl) (S0 : HS0 X h0) (hret : (ev_h X).sig.returnType = (Option.some (Jvm.ClassFile.FieldType.object "GathersAllFaults$Value"))) (hXn : ev_n X = 8) (hini : True) (hTb : (ev_c X).exceptionTable.toList = []) (hJ36 : ∀ (x0 : Nat) (x2 : Option Nat) (x3 : Int32) (x4 : Nat) (x5 : Int32) (x6 : Int32) (h : HS), J36 x0 x2 x3 x4 x5 x6 h → GH X G h (hQ X G h0 Q E) 36 [(0, .ref x0), (2, va_rf x2), (3, .int x3), (4, .ref x4), (5, .int x5), (6, .int x6)] []) : ∀ (x0 : Nat) (x2 : Option Nat) (x3 : Int32) (x4 : Nat) (x5 : Int32) (x6 : Int32) (h : HS), wb_X12_with_80 cl lm Q E J36 x0 x2 x3 x4 x5 x6 h → GH X G h (hQ X G h0 Q E) 80 [(0, .ref x0), (2, va_rf x2), (3, .int x3), (4, .ref x4), (5, .int x5), (6, .int x6)] [] := by
  have hlm := hCl.2.1
  have hd8 := hCl.2.2.1
  have hd2 : 1 ≤ d2 := Nat.le_trans (by decide) hd8
  have hLa := hCl.2.2.2
  have hd1 : 1 ≤ d2 + 1 := Nat.le_add_left _ _
  have hC9 := hCl
  replace hCl := hCl.1
  intro x0 x2 x3 x4 x5 x6 h hw
  unfold wb_X12_with_80 at hw
  obtain ⟨x_1, ex_1⟩ : ∃ z : Int32, z = x6 + 1 := ⟨_, rfl⟩
  replace hw := hw x_1 ex_1
  refine gk_iinc (pc := 80) (v := x_1) (lv' := [(6, Value.int x_1), (0, Value.ref x0), (2, va_rf x2), (3, Value.int x3), (4, Value.ref x4), (5, Value.int x5)]) C.1 5 dX12_with_80 rfl (by rw [ex_1]; rfl) (by rw [hXn]; decide) (by first | rfl | simp [va_rf_S, va_rf_cat, cat_i, cat_a, cat_l, cat_f, fin4_0, fin4_1, fin4_2, fin4_3]) ?_
  refine gk_goto (pc := 83) (tgt := 36) C.1 dX12_with_83 (by decide) ?_
  refine GK.sub (lv' := [(0, .ref x0), (2, va_rf x2), (3, .int x3), (4, .ref x4), (5, .int x5), (6, .int x_1)]) [1, 2, 3, 4, 5, 0] rfl ?_
  exact hJ36 _ _ _ _ _ _ _ hw
def wb_X12_with_63 (cl : CT) (lm : Nat × Nat) (Q : QT) (E : ET) (J36 : Nat → Option Nat → Int32 → Nat → Int32 → Int32 → HS → Prop) (x0 : Nat) (x2 : Option Nat) (x3 : Int32) (x4 : Nat) (x5 : Int32) (x6 : Int32) (s0 : Option Nat) (h : HS) : Prop := (s0 = none → (wb_X12_with_80 cl lm Q E J36 x0 x2 x3 x4 x5 x6 h)) ∧ (∀ a_2 : Nat, s0 = some a_2 → (hT h x4 = 114 ∧ (vp_in x5 (hN h x4) ∧ (as_X1 h (some a_2) ∧ (∀ h_3 : HS, h_3 = sB h x4 x5.toNatClampNeg (some a_2) → (∀ x_4 : Int32, x_4 = x5 + 1 → (wb_X12_with_80 cl lm Q E J36 x0 x2 x3 x4 x_4 x6 h_3)))))))
theorem wk_X12_with_63 {X : Ev} {G : GG} {cl : CT} {lm : Nat × Nat} {Q : QT} {E : ET} {h0 : HS} {d2 : Nat} {J36 : Nat → Option Nat → Int32 → Nat → Int32 → Int32 → HS → Prop} (C : HC X G RX12 cX12_with (d2 + 1)) (hCl : CallsOK (ev_l X) G d2 cl ∧ hLm G lm ∧ 8 ≤ d2 ∧ LamsOK (ev_l X) G d2 cl) (S0 : HS0 X h0) (hret : (ev_h X).sig.returnType = (Option.some (Jvm.ClassFile.FieldType.object "GathersAllFaults$Value"))) (hXn : ev_n X = 8) (hini : True) (hTb : (ev_c X).exceptionTable.toList = []) (hJ36 : ∀ (x0 : Nat) (x2 : Option Nat) (x3 : Int32) (x4 : Nat) (x5 : Int32) (x6 : Int32) (h : HS), J36 x0 x2 x3 x4 x5 x6 h → GH X G h (hQ X G h0 Q E) 36 [(0, .ref x0), (2, va_rf x2), (3, .int x3), (4, .ref x4), (5, .int x5), (6, .int x6)] []) : ∀ (x0 : Nat) (x2 : Option Nat) (x3 : Int32) (x4 : Nat) (x5 : Int32) (x6 : Int32) (s0 : Option Nat) (h : HS), wb_X12_with_63 cl lm Q E J36 x0 x2 x3 x4 x5 x6 s0 h → GH X G h (hQ X G h0 Q E) 63 [(0, .ref x0), (2, va_rf x2), (3, .int x3), (4, .ref x4), (5, .int x5), (6, .int x6)] [va_rf s0] := by
  have hlm := hCl.2.1
  have hd8 := hCl.2.2.1
  have hd2 : 1 ≤ d2 := Nat.le_trans (by decide) hd8
  have hLa := hCl.2.2.2
  have hd1 : 1 ≤ d2 + 1 := Nat.le_add_left _ _
  have hC9 := hCl
  replace hCl := hCl.1
  intro x0 x2 x3 x4 x5 x6 s0 h hw
  unfold wb_X12_with_63 at hw
  refine gk_qstore (pc := 63) (lv' := [(7, va_rf s0), (0, Value.ref x0), (2, va_rf x2), (3, Value.int x3), (4, Value.ref x4), (5, Value.int x5), (6, Value.int x6)]) C.1 dX12_with_63 (by rw [hXn]; decide) (by first | rfl | simp [va_rf_S, va_rf_cat, cat_i, cat_a, cat_l, cat_f, fin4_0, fin4_1, fin4_2, fin4_3]) ?_
  refine gk_qload (pc := 65) C.1 0 dX12_with_65 rfl ?_
  refine gk_ifnull (pc := 67) (tgt := 80) C.1 dX12_with_67 (by decide) (fun c_1 => ?_) (fun c_1 => ?_)
  · replace hw := hw.1 c_1
    subst c_1
    refine GK.sub (lv' := [(0, .ref x0), (2, va_rf x2), (3, .int x3), (4, .ref x4), (5, .int x5), (6, .int x6)]) [1, 2, 3, 4, 5, 6] rfl ?_
    exact wk_X12_with_80 C hC9 S0 hret hXn hini hTb hJ36 _ _ _ _ _ _ _ hw
  · obtain ⟨a_2, c_1⟩ := Option.ne_none_iff_exists'.mp c_1
    replace hw := hw.2 a_2 c_1
    subst c_1
    refine gk_aload (pc := 70) C.1 4 dX12_with_70 rfl ?_
    refine gk_iload (pc := 72) C.1 5 dX12_with_72 rfl ?_
    refine gk_aload (pc := 74) C.1 0 dX12_with_74 rfl ?_
    obtain ⟨ht, hi, hs, hw⟩ := hw
    refine gh_aast (pc := 76) (r := (some a_2)) (t0 := 6) (E := "GathersAllFaults$Value") C ht (by decide) (by decide) rfl (as_X1_ok hs) hi dX12_with_76 ?_
    obtain ⟨h_3, eh_3⟩ : ∃ z : HS, z = sB h x4 x5.toNatClampNeg (some a_2) := ⟨_, rfl⟩
    rw [← eh_3]
    replace hw := hw h_3 eh_3
    obtain ⟨x_4, ex_4⟩ : ∃ z : Int32, z = x5 + 1 := ⟨_, rfl⟩
    replace hw := hw x_4 ex_4
    refine gk_iinc (pc := 77) (v := x_4) (lv' := [(5, Value.int x_4), (7, Value.ref a_2), (0, Value.ref x0), (2, va_rf x2), (3, Value.int x3), (4, Value.ref x4), (6, Value.int x6)]) C.1 5 dX12_with_77 rfl (by rw [ex_4]; rfl) (by rw [hXn]; decide) (by first | rfl | simp [va_rf_S, va_rf_cat, cat_i, cat_a, cat_l, cat_f, fin4_0, fin4_1, fin4_2, fin4_3]) ?_
    refine GK.sub (lv' := [(0, .ref x0), (2, va_rf x2), (3, .int x3), (4, .ref x4), (5, .int x_4), (6, .int x6)]) [2, 3, 4, 5, 0, 6] rfl ?_
    exact wk_X12_with_80 C hC9 S0 hret hXn hini hTb hJ36 _ _ _ _ _ _ _ hw
def wb_X12_with_36 (cl : CT) (lm : Nat × Nat) (Q : QT) (E : ET) : Nat → Nat → Option Nat → Int32 → Nat → Int32 → Int32 → HS → Prop
  | 0 => fun _ _ _ _ _ _ _ => False
  | n + 1 => fun x0 x2 x3 x4 x5 x6 h => (hT h x0 = 5) ∧ (∀ r_1 : Option Nat, r_1 = hR h 20 x0 → (∃ a_2 : Nat, r_1 = some a_2 ∧ (hT h a_2 = 114 ∧ ((((nI (hN h a_2)) ≤ x6 → (hZ h + 1 ≤ lm.1 ∧ (hL h + 1 ≤ lm.2 ∧ (∀ (a_5 : Nat) (h_4 : HS), a_5 = hZ h → h_4 = hNew h 5 0 1 → (cl 213 (.ref a_5 :: [.ref x4]) h_4 (gV (fun h_6 => Q (some (va_rf (some a_5))) h_6)) E))))) ∧ (¬ (nI (hN h a_2)) ≤ x6 → (((¬ x6 = x3 → ((hT h x0 = 5) ∧ (∀ r_10 : Option Nat, r_10 = hR h 20 x0 → (∃ a_11 : Nat, r_10 = some a_11 ∧ (hT h a_11 = 114 ∧ (vp_in x6 (hN h a_11) ∧ (∀ r_12 : Option Nat, r_12 = hB h a_11 x6.toNatClampNeg → (wb_X12_with_63 cl lm Q E (fun yx0 yx2 yx3 yx4 yx5 yx6 yh => wb_X12_with_36 cl lm Q E n yx0 yx2 yx3 yx4 yx5 yx6 yh) x0 x2 x3 x4 x5 x6 r_12 h)))))))) ∧ (x6 = x3 → (wb_X12_with_63 cl lm Q E (fun yx0 yx2 yx3 yx4 yx5 yx6 yh => wb_X12_with_36 cl lm Q E n yx0 yx2 yx3 yx4 yx5 yx6 yh) x0 x2 x3 x4 x5 x6 x2 h))))))))))
theorem wk_X12_with_36 {X : Ev} {G : GG} {cl : CT} {lm : Nat × Nat} {Q : QT} {E : ET} {h0 : HS} {d2 : Nat} (C : HC X G RX12 cX12_with (d2 + 1)) (hCl : CallsOK (ev_l X) G d2 cl ∧ hLm G lm ∧ 8 ≤ d2 ∧ LamsOK (ev_l X) G d2 cl) (S0 : HS0 X h0) (hret : (ev_h X).sig.returnType = (Option.some (Jvm.ClassFile.FieldType.object "GathersAllFaults$Value"))) (hXn : ev_n X = 8) (hini : True) (hTb : (ev_c X).exceptionTable.toList = []) : ∀ (n : Nat) (x0 : Nat) (x2 : Option Nat) (x3 : Int32) (x4 : Nat) (x5 : Int32) (x6 : Int32) (h : HS), wb_X12_with_36 cl lm Q E n x0 x2 x3 x4 x5 x6 h → GH X G h (hQ X G h0 Q E) 36 [(0, .ref x0), (2, va_rf x2), (3, .int x3), (4, .ref x4), (5, .int x5), (6, .int x6)] [] := by
  have hlm := hCl.2.1
  have hd8 := hCl.2.2.1
  have hd2 : 1 ≤ d2 := Nat.le_trans (by decide) hd8
  have hLa := hCl.2.2.2
  have hd1 : 1 ≤ d2 + 1 := Nat.le_add_left _ _
  have hC9 := hCl
  replace hCl := hCl.1
  intro n
  induction n with
  | zero => intro x0 x2 x3 x4 x5 x6 h hw; exact hw.elim
  | succ n ih =>
  intro x0 x2 x3 x4 x5 x6 h hw
  unfold wb_X12_with_36 at hw
  refine gk_iload (pc := 36) C.1 5 dX12_with_36 rfl ?_
  refine gk_aload_n (pc := 38) C.1 0 dX12_with_38 rfl rfl ?_
  obtain ⟨ht, hw⟩ := hw
  refine gf_X12_9 (pc := 39) C ht dX12_with_39 (fun r_1 er_1 => ?_)
  replace hw := hw r_1 er_1
  obtain ⟨a_2, rfl, hw⟩ := hw
  obtain ⟨ht, hw⟩ := hw
  refine gh_len (pc := 42) (t0 := 6) (ty := tyA 114) C ht (by decide) rfl dX12_with_42 ?_
  refine gk_icmp_ge (pc := 43) (tgt := 86) C.1 dX12_with_43 (by decide) (fun c_3 => ?_) (fun c_3 => ?_)
  · replace hw := hw.1 c_3
    obtain ⟨hr1, hr2, hw⟩ := hw
    refine gn_X12_10 (pc := 86) C (hlm.1 ▸ hr1) (hlm.2 ▸ hr2) dX12_with_86 (fun h_4 eh_4 => ?_)
    obtain ⟨a_5, ea_5⟩ : ∃ z : Nat, z = hZ h := ⟨_, rfl⟩
    rw [← ea_5]
    replace hw := hw a_5 h_4 ea_5 eh_4
    refine gk_dup (pc := 89) C.1 dX12_with_89 rfl ?_
    refine gk_aload (pc := 90) C.1 3 dX12_with_90 rfl ?_
    refine gc_X12_30 (pc := 92) (As := [.ref x4]) (rest := [.ref a_5]) C hCl (Nat.le_refl _) hw rfl rfl (Nat.le_of_ble_eq_true rfl) dX12_with_92 (fun v9 h_6 hp => ?_) (fun q_7 h_8 hw ht9 => ?_)
    rotate_left
    · exact gx_out C S0 (by rw [hTb]; decide) ht9 hw
    clear hw
    obtain ⟨rfl, hw⟩ := hp
    refine GK.at (p2 := 95) rfl ?_
    exact gh_aret (pc := 95) (r := (some a_5)) C S0 hret (Or.inl ⟨_, rfl⟩) dX12_with_95 hw
  · replace hw := hw.2 c_3
    refine gk_iload (pc := 46) C.1 5 dX12_with_46 rfl ?_
    refine gk_iload_n (pc := 48) C.1 2 dX12_with_48 rfl rfl ?_
    refine gk_icmp_ne (pc := 49) (tgt := 56) C.1 dX12_with_49 (by decide) (fun c_9 => ?_) (fun c_9 => ?_)
    · replace hw := hw.1 c_9
      refine gk_aload_n (pc := 56) C.1 0 dX12_with_56 rfl rfl ?_
      obtain ⟨ht, hw⟩ := hw
      refine gf_X12_9 (pc := 57) C ht dX12_with_57 (fun r_10 er_10 => ?_)
      replace hw := hw r_10 er_10
      refine gk_iload (pc := 60) C.1 5 dX12_with_60 rfl ?_
      obtain ⟨a_11, rfl, hw⟩ := hw
      obtain ⟨ht, hi, hw⟩ := hw
      refine gh_aald (pc := 62) (t0 := 6) (E := "GathersAllFaults$Value") C ht (by decide) (by decide) rfl hi dX12_with_62 ?_
      obtain ⟨r_12, er_12⟩ : ∃ z : Option Nat, z = hB h a_11 x6.toNatClampNeg := ⟨_, rfl⟩
      rw [← er_12]
      replace hw := hw r_12 er_12
      refine GK.sub (lv' := [(0, .ref x0), (2, va_rf x2), (3, .int x3), (4, .ref x4), (5, .int x5), (6, .int x6)]) [0, 1, 2, 3, 4, 5] rfl ?_
      exact wk_X12_with_63 C hC9 S0 hret hXn hini hTb ih _ _ _ _ _ _ _ _ hw
    · replace hw := hw.2 c_9
      refine gk_qload_n (pc := 52) C.1 1 dX12_with_52 rfl rfl ?_
      refine gk_goto (pc := 53) (tgt := 63) C.1 dX12_with_53 (by decide) ?_
      refine GK.sub (lv' := [(0, .ref x0), (2, va_rf x2), (3, .int x3), (4, .ref x4), (5, .int x5), (6, .int x6)]) [0, 1, 2, 3, 4, 5] rfl ?_
      exact wk_X12_with_63 C hC9 S0 hret hXn hini hTb ih _ _ _ _ _ _ _ _ hw
def wb_X12_with_25 (cl : CT) (lm : Nat × Nat) (Q : QT) (E : ET) (x0 : Nat) (x2 : Option Nat) (x3 : Int32) (s0 : Int32) (h : HS) : Prop := ¬ s0 < 0 ∧ (s0.toNatClampNeg * 4 ≤ 536870912 ∧ (hZ h + 1 ≤ lm.1 ∧ (hL h + s0.toNatClampNeg ≤ lm.2 ∧ (∀ (a_2 : Nat) (h_1 : HS), a_2 = hZ h → h_1 = hNew h 114 s0.toNatClampNeg s0.toNatClampNeg → (∃ fu : Nat, wb_X12_with_36 cl lm Q E fu x0 x2 x3 a_2 0 0 h_1)))))
theorem wk_X12_with_25 {X : Ev} {G : GG} {cl : CT} {lm : Nat × Nat} {Q : QT} {E : ET} {h0 : HS} {d2 : Nat} (C : HC X G RX12 cX12_with (d2 + 1)) (hCl : CallsOK (ev_l X) G d2 cl ∧ hLm G lm ∧ 8 ≤ d2 ∧ LamsOK (ev_l X) G d2 cl) (S0 : HS0 X h0) (hret : (ev_h X).sig.returnType = (Option.some (Jvm.ClassFile.FieldType.object "GathersAllFaults$Value"))) (hXn : ev_n X = 8) (hini : True) (hTb : (ev_c X).exceptionTable.toList = []) : ∀ (x0 : Nat) (x2 : Option Nat) (x3 : Int32) (s0 : Int32) (h : HS), wb_X12_with_25 cl lm Q E x0 x2 x3 s0 h → GH X G h (hQ X G h0 Q E) 25 [(0, .ref x0), (2, va_rf x2), (3, .int x3)] [.int s0] := by
  have hlm := hCl.2.1
  have hd8 := hCl.2.2.1
  have hd2 : 1 ≤ d2 := Nat.le_trans (by decide) hd8
  have hLa := hCl.2.2.2
  have hd1 : 1 ≤ d2 + 1 := Nat.le_add_left _ _
  have hC9 := hCl
  replace hCl := hCl.1
  intro x0 x2 x3 s0 h hw
  unfold wb_X12_with_25 at hw
  obtain ⟨hn0, hby, hr1, hr2, hw⟩ := hw
  refine gh_anew (pc := 25) (t := 114) (t0 := 6) (E := "GathersAllFaults$Value") C ⟨by decide, by decide⟩ rfl q1701 q263 hn0 hby (hlm.1 ▸ hr1) (hlm.2 ▸ hr2) dX12_with_25 ?_
  obtain ⟨h_1, eh_1⟩ : ∃ z : HS, z = hNew h 114 s0.toNatClampNeg s0.toNatClampNeg := ⟨_, rfl⟩
  rw [← eh_1]
  obtain ⟨a_2, ea_2⟩ : ∃ z : Nat, z = hZ h := ⟨_, rfl⟩
  rw [← ea_2]
  replace hw := hw a_2 h_1 ea_2 eh_1
  refine gk_astore (pc := 28) (lv' := [(4, Value.ref a_2), (0, Value.ref x0), (2, va_rf x2), (3, Value.int x3)]) C.1 dX12_with_28 (by rw [hXn]; decide) (by first | rfl | simp [va_rf_S, va_rf_cat, cat_i, cat_a, cat_l, cat_f, fin4_0, fin4_1, fin4_2, fin4_3]) ?_
  refine gk_iconst (pc := 30) (v := 0) C.1 dX12_with_30 (by decide) ?_
  refine gk_istore (pc := 31) (lv' := [(5, Value.int 0), (4, Value.ref a_2), (0, Value.ref x0), (2, va_rf x2), (3, Value.int x3)]) C.1 dX12_with_31 (by rw [hXn]; decide) (by first | rfl | simp [va_rf_S, va_rf_cat, cat_i, cat_a, cat_l, cat_f, fin4_0, fin4_1, fin4_2, fin4_3]) ?_
  refine gk_iconst (pc := 33) (v := 0) C.1 dX12_with_33 (by decide) ?_
  refine gk_istore (pc := 34) (lv' := [(6, Value.int 0), (5, Value.int 0), (4, Value.ref a_2), (0, Value.ref x0), (2, va_rf x2), (3, Value.int x3)]) C.1 dX12_with_34 (by rw [hXn]; decide) (by first | rfl | simp [va_rf_S, va_rf_cat, cat_i, cat_a, cat_l, cat_f, fin4_0, fin4_1, fin4_2, fin4_3]) ?_
  refine GK.sub (lv' := [(0, .ref x0), (2, va_rf x2), (3, .int x3), (4, .ref a_2), (5, .int 0), (6, .int 0)]) [3, 4, 5, 2, 1, 0] rfl ?_
  obtain ⟨n9, hw⟩ := hw
  exact wk_X12_with_36 C hC9 S0 hret hXn hini hTb  n9 _ _ _ _ _ _ _ hw
def wb_X12_with (cl : CT) (lm : Nat × Nat) (Q : QT) (E : ET) (x0 : Nat) (x1 : Int32) (x2 : Option Nat) (h : HS) : Prop := ∀ x_1 : Int32, x_1 = (x1 - 1) - 5 → ((x2 = none → ((hT h x0 = 5) ∧ (∀ r_4 : Option Nat, r_4 = hR h 20 x0 → (∃ a_5 : Nat, r_4 = some a_5 ∧ (hT h a_5 = 114 ∧ (wb_X12_with_25 cl lm Q E x0 none x_1 ((nI (hN h a_5)) - 1) h)))))) ∧ (∀ a_3 : Nat, x2 = some a_3 → ((hT h x0 = 5) ∧ (∀ r_6 : Option Nat, r_6 = hR h 20 x0 → (∃ a_7 : Nat, r_6 = some a_7 ∧ (hT h a_7 = 114 ∧ (wb_X12_with_25 cl lm Q E x0 (some a_3) x_1 (nI (hN h a_7)) h)))))))
theorem wx_X12_with {l : Launch} (hst : l.stackTraces = false) {G : GG} {cl : CT} {lm : Nat × Nat} {Q : QT} {E : ET} {d2 : Nat} (hCl : CallsOK l G d2 cl ∧ hLm G lm ∧ 8 ≤ d2 ∧ LamsOK l G d2 cl) {x0 : Nat} {x1 : Int32} {x2 : Option Nat} {h : HS} (hw : wb_X12_with cl lm Q E x0 x1 x2 h) : HMet l G yX12_with (ws_ yX12_with cX12_with 8 ((Option.some (Jvm.ClassFile.FieldType.object "GathersAllFaults$Value")))) (d2 + 1) [.ref x0, .int x1, va_rf x2] h Q E := by
  refine gh_met (own := RX12) rfl (by decide +kernel) hst (by simp only [lg_sl_i, lg_sl_r, lg_sl_a, lg_sl_2, lg_sl_f, lg_sl_0]; decide) (fun X hXl hXn hret hnm hTb h0 eh C S0 => ?_)
  subst hXl
  have hlm := hCl.2.1
  have hd8 := hCl.2.2.1
  have hd2 : 1 ≤ d2 := Nat.le_trans (by decide) hd8
  have hLa := hCl.2.2.2
  have hd1 : 1 ≤ d2 + 1 := Nat.le_add_left _ _
  have hC9 := hCl
  replace hCl := hCl.1
  have hini : True := trivial
  unfold wb_X12_with at hw
  refine GK.sub (lv' := [(0, .ref x0), (1, .int x1), (2, va_rf x2)]) [0, 1, 2] (by simp only [lv_args_i, lv_args_r, lv_args_a, lv_args_l, lv_args_f, lv_args_0]; rfl) ?_
  refine gk_iload_n (pc := 0) C.1 1 dX12_with_0 rfl rfl ?_
  refine gk_iconst (pc := 1) (v := 1) C.1 dX12_with_1 (by decide) ?_
  refine gk_isub (pc := 2) C.1 dX12_with_2 ?_
  refine gk_iconst (pc := 3) (v := 5) C.1 dX12_with_3 (by decide) ?_
  refine gk_isub (pc := 4) C.1 dX12_with_4 ?_
  obtain ⟨x_1, ex_1⟩ : ∃ z : Int32, z = (x1 - 1) - 5 := ⟨_, rfl⟩
  rw [← ex_1]
  replace hw := hw x_1 ex_1
  refine gk_istore_n (pc := 5) (lv' := [(3, Value.int x_1), (0, Value.ref x0), (1, Value.int x1), (2, va_rf x2)]) C.1 dX12_with_5 rfl (by rw [hXn]; decide) (by first | rfl | simp [va_rf_S, va_rf_cat, cat_i, cat_a, cat_l, cat_f, fin4_0, fin4_1, fin4_2, fin4_3]) ?_
  refine gk_qload_n (pc := 6) C.1 3 dX12_with_6 rfl rfl ?_
  refine gk_ifnonnull (pc := 7) (tgt := 20) C.1 dX12_with_7 (by decide) (fun c_2 => ?_) (fun c_2 => ?_)
  · obtain ⟨a_3, c_2⟩ := Option.ne_none_iff_exists'.mp c_2
    replace hw := hw.2 a_3 c_2
    subst c_2
    refine gk_aload_n (pc := 20) C.1 1 dX12_with_20 rfl rfl ?_
    obtain ⟨ht, hw⟩ := hw
    refine gf_X12_9 (pc := 21) C ht dX12_with_21 (fun r_6 er_6 => ?_)
    replace hw := hw r_6 er_6
    obtain ⟨a_7, rfl, hw⟩ := hw
    obtain ⟨ht, hw⟩ := hw
    refine gh_len (pc := 24) (t0 := 6) (ty := tyA 114) C ht (by decide) rfl dX12_with_24 ?_
    refine GK.sub (lv' := [(0, .ref x0), (2, va_rf (some a_3)), (3, .int x_1)]) [1, 3, 0] rfl ?_
    exact wk_X12_with_25 C hC9 S0 hret hXn hini hTb  _ _ _ _ _ hw
  · replace hw := hw.1 c_2
    subst c_2
    refine gk_aload_n (pc := 10) C.1 1 dX12_with_10 rfl rfl ?_
    obtain ⟨ht, hw⟩ := hw
    refine gf_X12_9 (pc := 11) C ht dX12_with_11 (fun r_4 er_4 => ?_)
    replace hw := hw r_4 er_4
    obtain ⟨a_5, rfl, hw⟩ := hw
    obtain ⟨ht, hw⟩ := hw
    refine gh_len (pc := 14) (t0 := 6) (ty := tyA 114) C ht (by decide) rfl dX12_with_14 ?_
    refine gk_iconst (pc := 15) (v := 1) C.1 dX12_with_15 (by decide) ?_
    refine gk_isub (pc := 16) C.1 dX12_with_16 ?_
    refine gk_goto (pc := 17) (tgt := 25) C.1 dX12_with_17 (by decide) ?_
    refine GK.sub (lv' := [(0, .ref x0), (2, va_rf none), (3, .int x_1)]) [1, 3, 0] rfl ?_
    exact wk_X12_with_25 C hC9 S0 hret hXn hini hTb  _ _ _ _ _ hw
/-! 222: GathersAllFaults$Found.<init>()V -/
def wb_X13_init (cl : CT) (lm : Nat × Nat) (Q : QT) (E : ET) (x0 : Nat) (h : HS) : Prop := Q none h
theorem wx_X13_init {l : Launch} (hst : l.stackTraces = false) {G : GG} {cl : CT} {lm : Nat × Nat} {Q : QT} {E : ET} {d2 : Nat} (hCl : CallsOK l G d2 cl ∧ hLm G lm ∧ 8 ≤ d2 ∧ LamsOK l G d2 cl) {x0 : Nat} {h : HS} (hw : wb_X13_init cl lm Q E x0 h) : HMet l G yX13_init (ws_ yX13_init cX13_init 1 ((Option.none : Option Jvm.ClassFile.FieldType))) (d2 + 1) [.ref x0] h Q E := by
  refine gh_met (own := RX13) rfl (by decide +kernel) hst (by simp only [lg_sl_i, lg_sl_r, lg_sl_a, lg_sl_2, lg_sl_f, lg_sl_0]; decide) (fun X hXl hXn hret hnm hTb h0 eh C S0 => ?_)
  subst hXl
  have hlm := hCl.2.1
  have hd8 := hCl.2.2.1
  have hd2 : 1 ≤ d2 := Nat.le_trans (by decide) hd8
  have hLa := hCl.2.2.2
  have hd1 : 1 ≤ d2 + 1 := Nat.le_add_left _ _
  have hC9 := hCl
  replace hCl := hCl.1
  have hini : (ev_h X).name = "<init>" := hnm.1
  unfold wb_X13_init at hw
  refine GK.sub (lv' := [(0, .ref x0)]) [0] (by simp only [lv_args_i, lv_args_r, lv_args_a, lv_args_l, lv_args_f, lv_args_0]; rfl) ?_
  refine gk_aload_n (pc := 0) C.1 0 dX13_init_0 rfl rfl ?_
  refine gh_obj (pc := 1) C hd1 q1274 (Nat.le_of_ble_eq_true rfl) dX13_init_1 ?_
  exact gh_vret (pc := 4) C S0 hret dX13_init_4 hw
/-! 223: GathersAllFaults$Found.of(II)LGathersAllFaults$Found; -/
def wb_X13_of (cl : CT) (lm : Nat × Nat) (Q : QT) (E : ET) (x0 : Nat) (x1 : Int32) (x2 : Int32) (h : HS) : Prop := (hT h x0 = 8) ∧ (∀ h_1 : HS, h_1 = sI h 25 x0 x1 → ((hT h_1 x0 = 8) ∧ (∀ h_2 : HS, h_2 = sI h_1 26 x0 x2 → (Q (some (va_rf (some x0))) h_2))))
theorem wx_X13_of {l : Launch} (hst : l.stackTraces = false) {G : GG} {cl : CT} {lm : Nat × Nat} {Q : QT} {E : ET} {d2 : Nat} (hCl : CallsOK l G d2 cl ∧ hLm G lm ∧ 8 ≤ d2 ∧ LamsOK l G d2 cl) {x0 : Nat} {x1 : Int32} {x2 : Int32} {h : HS} (hw : wb_X13_of cl lm Q E x0 x1 x2 h) : HMet l G yX13_of (ws_ yX13_of cX13_of 3 ((Option.some (Jvm.ClassFile.FieldType.object "GathersAllFaults$Found")))) (d2 + 1) [.ref x0, .int x1, .int x2] h Q E := by
  refine gh_met (own := RX13) rfl (by decide +kernel) hst (by simp only [lg_sl_i, lg_sl_r, lg_sl_a, lg_sl_2, lg_sl_f, lg_sl_0]; decide) (fun X hXl hXn hret hnm hTb h0 eh C S0 => ?_)
  subst hXl
  have hlm := hCl.2.1
  have hd8 := hCl.2.2.1
  have hd2 : 1 ≤ d2 := Nat.le_trans (by decide) hd8
  have hLa := hCl.2.2.2
  have hd1 : 1 ≤ d2 + 1 := Nat.le_add_left _ _
  have hC9 := hCl
  replace hCl := hCl.1
  have hini : True := trivial
  unfold wb_X13_of at hw
  refine GK.sub (lv' := [(0, .ref x0), (1, .int x1), (2, .int x2)]) [0, 1, 2] (by simp only [lv_args_i, lv_args_r, lv_args_a, lv_args_l, lv_args_f, lv_args_0]; rfl) ?_
  refine gk_aload_n (pc := 0) C.1 0 dX13_of_0 rfl rfl ?_
  refine gk_iload_n (pc := 1) C.1 1 dX13_of_1 rfl rfl ?_
  obtain ⟨ht, hw⟩ := hw
  refine gfp_X13_7 (pc := 2) C ht dX13_of_2 (fun h_1 eh_1 => ?_)
  replace hw := hw h_1 eh_1
  refine gk_aload_n (pc := 5) C.1 0 dX13_of_5 rfl rfl ?_
  refine gk_iload_n (pc := 6) C.1 2 dX13_of_6 rfl rfl ?_
  obtain ⟨ht, hw⟩ := hw
  refine gfp_X13_13 (pc := 7) C ht dX13_of_7 (fun h_2 eh_2 => ?_)
  replace hw := hw h_2 eh_2
  refine gk_aload_n (pc := 10) C.1 0 dX13_of_10 rfl rfl ?_
  exact gh_aret (pc := 11) (r := (some x0)) C S0 hret (Or.inl ⟨_, rfl⟩) dX13_of_11 hw
/-! 224: GathersAllFaults$Found.path()I -/
def wb_X13_path (cl : CT) (lm : Nat × Nat) (Q : QT) (E : ET) (x0 : Nat) (h : HS) : Prop := (hT h x0 = 8) ∧ (Q (some (.int (hI h 25 x0))) h)
theorem wx_X13_path {l : Launch} (hst : l.stackTraces = false) {G : GG} {cl : CT} {lm : Nat × Nat} {Q : QT} {E : ET} {d2 : Nat} (hCl : CallsOK l G d2 cl ∧ hLm G lm ∧ 8 ≤ d2 ∧ LamsOK l G d2 cl) {x0 : Nat} {h : HS} (hw : wb_X13_path cl lm Q E x0 h) : HMet l G yX13_path (ws_ yX13_path cX13_path 1 ((Option.some Jvm.ClassFile.FieldType.int))) (d2 + 1) [.ref x0] h Q E := by
  refine gh_met (own := RX13) rfl (by decide +kernel) hst (by simp only [lg_sl_i, lg_sl_r, lg_sl_a, lg_sl_2, lg_sl_f, lg_sl_0]; decide) (fun X hXl hXn hret hnm hTb h0 eh C S0 => ?_)
  subst hXl
  have hlm := hCl.2.1
  have hd8 := hCl.2.2.1
  have hd2 : 1 ≤ d2 := Nat.le_trans (by decide) hd8
  have hLa := hCl.2.2.2
  have hd1 : 1 ≤ d2 + 1 := Nat.le_add_left _ _
  have hC9 := hCl
  replace hCl := hCl.1
  have hini : True := trivial
  unfold wb_X13_path at hw
  refine GK.sub (lv' := [(0, .ref x0)]) [0] (by simp only [lv_args_i, lv_args_r, lv_args_a, lv_args_l, lv_args_f, lv_args_0]; rfl) ?_
  refine gk_aload_n (pc := 0) C.1 0 dX13_path_0 rfl rfl ?_
  obtain ⟨ht, hw⟩ := hw
  refine gf_X13_7 (pc := 1) C ht dX13_path_1 ?_
  exact gh_iret (pc := 4) C S0 hret dX13_path_4 hw
/-! 225: GathersAllFaults$Found.told()I -/
def wb_X13_told (cl : CT) (lm : Nat × Nat) (Q : QT) (E : ET) (x0 : Nat) (h : HS) : Prop := (hT h x0 = 8) ∧ ((hT h x0 = 8) ∧ (Q (some (.int ((100 * (hI h 25 x0)) + (hI h 26 x0)))) h))
theorem wx_X13_told {l : Launch} (hst : l.stackTraces = false) {G : GG} {cl : CT} {lm : Nat × Nat} {Q : QT} {E : ET} {d2 : Nat} (hCl : CallsOK l G d2 cl ∧ hLm G lm ∧ 8 ≤ d2 ∧ LamsOK l G d2 cl) {x0 : Nat} {h : HS} (hw : wb_X13_told cl lm Q E x0 h) : HMet l G yX13_told (ws_ yX13_told cX13_told 1 ((Option.some Jvm.ClassFile.FieldType.int))) (d2 + 1) [.ref x0] h Q E := by
  refine gh_met (own := RX13) rfl (by decide +kernel) hst (by simp only [lg_sl_i, lg_sl_r, lg_sl_a, lg_sl_2, lg_sl_f, lg_sl_0]; decide) (fun X hXl hXn hret hnm hTb h0 eh C S0 => ?_)
  subst hXl
  have hlm := hCl.2.1
  have hd8 := hCl.2.2.1
  have hd2 : 1 ≤ d2 := Nat.le_trans (by decide) hd8
  have hLa := hCl.2.2.2
  have hd1 : 1 ≤ d2 + 1 := Nat.le_add_left _ _
  have hC9 := hCl
  replace hCl := hCl.1
  have hini : True := trivial
  unfold wb_X13_told at hw
  refine GK.sub (lv' := [(0, .ref x0)]) [0] (by simp only [lv_args_i, lv_args_r, lv_args_a, lv_args_l, lv_args_f, lv_args_0]; rfl) ?_
  refine gk_bipush (pc := 0) (v := 100) C.1 dX13_told_0 (by decide) ?_
  refine gk_aload_n (pc := 2) C.1 0 dX13_told_2 rfl rfl ?_
  obtain ⟨ht, hw⟩ := hw
  refine gf_X13_7 (pc := 3) C ht dX13_told_3 ?_
  refine gk_imul (pc := 6) C.1 dX13_told_6 ?_
  refine gk_aload_n (pc := 7) C.1 0 dX13_told_7 rfl rfl ?_
  obtain ⟨ht, hw⟩ := hw
  refine gf_X13_13 (pc := 8) C ht dX13_told_8 ?_
  refine gk_iadd (pc := 11) C.1 dX13_told_11 ?_
  exact gh_iret (pc := 12) C S0 hret dX13_told_12 hw
/-! 226: GathersAllFaults$Spec.dependent(LGathersAllFaults$Hanging;LGathersAllFaults$Rec;ILGathersAllFaults$Finding;)V -/
def wb_X14_dependent_67 (cl : CT) (lm : Nat × Nat) (Q : QT) (E : ET) (x1 : Option Nat) (x3 : Int32) (x4 : Option Nat) (x5 : Option Nat) (x6 : Option Nat) (s0 : Int32) (h : HS) : Prop := ((¬ s0 = 0 → (∃ a_2 : Nat, x1 = some a_2 ∧ ((hT h a_2 = 14) ∧ (∀ r_3 : Option Nat, r_3 = hR h 44 a_2 → (∃ a_4 : Nat, r_3 = some a_4 ∧ (dl_Both cl a_4 [va_rf x5, va_rf x6] h (gI (fun r_6 h_5 => ((¬ r_6 = 0 → (Q none h_5)) ∧ (r_6 = 0 → ((hT h_5 a_2 = 14) ∧ ((hT h_5 a_2 = 14) ∧ (∃ a_10 : Nat, x4 = some a_10 ∧ (dp_Finding_finds cl a_10 [.int ((10 * x3) + (hI h_5 47 a_2)), .int (hI h_5 45 a_2)] h_5 (gV (fun h_11 => Q none h_11)) E)))))))) E)))))) ∧ (s0 = 0 → (∃ a_14 : Nat, x4 = some a_14 ∧ ((hT h a_14 = 9) ∧ ((hT h a_14 = 9) ∧ (∀ h_15 : HS, h_15 = sI h 29 a_14 ((hI h 29 a_14) + 1) → (Q none h_15)))))))
theorem wk_X14_dependent_67 {X : Ev} {G : GG} {cl : CT} {lm : Nat × Nat} {Q : QT} {E : ET} {h0 : HS} {d2 : Nat} (C : HC X G RX14 cX14_dependent (d2 + 1)) (hCl : CallsOK (ev_l X) G d2 cl ∧ hLm G lm ∧ 8 ≤ d2 ∧ LamsOK (ev_l X) G d2 cl) (S0 : HS0 X h0) (hret : (ev_h X).sig.returnType = (Option.none : Option Jvm.ClassFile.FieldType)) (hXn : ev_n X = 8) (hini : True) (hTb : (ev_c X).exceptionTable.toList = []) : ∀ (x1 : Option Nat) (x3 : Int32) (x4 : Option Nat) (x5 : Option Nat) (x6 : Option Nat) (s0 : Int32) (h : HS), wb_X14_dependent_67 cl lm Q E x1 x3 x4 x5 x6 s0 h → GH X G h (hQ X G h0 Q E) 67 [(1, va_rf x1), (3, .int x3), (4, va_rf x4), (5, va_rf x5), (6, va_rf x6)] [.int s0] := by
  have hlm := hCl.2.1
  have hd8 := hCl.2.2.1
  have hd2 : 1 ≤ d2 := Nat.le_trans (by decide) hd8
  have hLa := hCl.2.2.2
  have hd1 : 1 ≤ d2 + 1 := Nat.le_add_left _ _
  have hC9 := hCl
  replace hCl := hCl.1
  intro x1 x3 x4 x5 x6 s0 h hw
  unfold wb_X14_dependent_67 at hw
  refine gk_istore (pc := 67) (lv' := [(7, Value.int s0), (1, va_rf x1), (3, Value.int x3), (4, va_rf x4), (5, va_rf x5), (6, va_rf x6)]) C.1 dX14_dependent_67 (by rw [hXn]; decide) (by first | rfl | simp [va_rf_S, va_rf_cat, cat_i, cat_a, cat_l, cat_f, fin4_0, fin4_1, fin4_2, fin4_3]) ?_
  refine gk_iload (pc := 69) C.1 0 dX14_dependent_69 rfl ?_
  refine gk_if_ne (pc := 71) (tgt := 88) C.1 dX14_dependent_71 (by decide) (fun c_1 => ?_) (fun c_1 => ?_)
  · replace hw := hw.1 c_1
    refine gk_qload_n (pc := 88) C.1 1 dX14_dependent_88 rfl rfl ?_
    obtain ⟨a_2, rfl, hw⟩ := hw
    obtain ⟨ht, hw⟩ := hw
    refine gf_X14_110 (pc := 89) C ht dX14_dependent_89 (fun r_3 er_3 => ?_)
    replace hw := hw r_3 er_3
    refine gk_qload (pc := 92) C.1 4 dX14_dependent_92 rfl ?_
    refine gk_qload (pc := 94) C.1 5 dX14_dependent_94 rfl ?_
    obtain ⟨a_4, rfl, hw⟩ := hw
    refine gcl_X14_114 (pc := 96) (As := [va_rf x5, va_rf x6]) (rest := []) C hLa (Nat.le_refl _) hw rfl rfl (Nat.le_of_ble_eq_true rfl) dX14_dependent_96 (fun v9 h_5 hp => ?_) (fun q_7 h_8 hw ht9 => ?_)
    rotate_left
    · exact gx_out C S0 (by rw [hTb]; decide) ht9 hw
    clear hw
    obtain ⟨r_6, rfl, hw⟩ := hp
    refine GK.at (p2 := 101) rfl ?_
    refine gk_if_ne (pc := 101) (tgt := 122) C.1 dX14_dependent_101 (by decide) (fun c_9 => ?_) (fun c_9 => ?_)
    · replace hw := hw.1 c_9
      exact gh_vret (pc := 122) C S0 hret dX14_dependent_122 hw
    · replace hw := hw.2 c_9
      refine gk_qload (pc := 104) C.1 3 dX14_dependent_104 rfl ?_
      refine gk_bipush (pc := 106) (v := 10) C.1 dX14_dependent_106 (by decide) ?_
      refine gk_iload_n (pc := 108) C.1 2 dX14_dependent_108 rfl rfl ?_
      refine gk_imul (pc := 109) C.1 dX14_dependent_109 ?_
      refine gk_aload_n (pc := 110) C.1 1 dX14_dependent_110 rfl rfl ?_
      obtain ⟨ht, hw⟩ := hw
      refine gf_X14_100 (pc := 111) C ht dX14_dependent_111 ?_
      refine gk_iadd (pc := 114) C.1 dX14_dependent_114 ?_
      refine gk_aload_n (pc := 115) C.1 1 dX14_dependent_115 rfl rfl ?_
      obtain ⟨ht, hw⟩ := hw
      refine gf_X14_120 (pc := 116) C ht dX14_dependent_116 ?_
      obtain ⟨a_10, rfl, hw⟩ := hw
      refine gc_X14_41 (pc := 119) (As := [.int ((10 * x3) + (hI h_5 47 a_2)), .int (hI h_5 45 a_2)]) (rest := []) C hCl (Nat.le_refl _) hw rfl rfl (Nat.le_of_ble_eq_true rfl) dX14_dependent_119 (fun v9 h_11 hp => ?_) (fun q_12 h_13 hw ht9 => ?_)
      rotate_left
      · exact gx_out C S0 (by rw [hTb]; decide) ht9 hw
      clear hw
      obtain ⟨rfl, hw⟩ := hp
      refine GK.at (p2 := 122) rfl ?_
      exact gh_vret (pc := 122) C S0 hret dX14_dependent_122 hw
  · replace hw := hw.2 c_1
    refine gk_qload (pc := 74) C.1 3 dX14_dependent_74 rfl ?_
    refine gk_dup (pc := 76) C.1 dX14_dependent_76 (va_rf_cat _) ?_
    obtain ⟨a_14, rfl, hw⟩ := hw
    obtain ⟨ht, hw⟩ := hw
    refine gf_X14_107 (pc := 77) C ht dX14_dependent_77 ?_
    refine gk_iconst (pc := 80) (v := 1) C.1 dX14_dependent_80 (by decide) ?_
    refine gk_iadd (pc := 81) C.1 dX14_dependent_81 ?_
    obtain ⟨ht, hw⟩ := hw
    refine gfp_X14_107 (pc := 82) C ht dX14_dependent_82 (fun h_15 eh_15 => ?_)
    replace hw := hw h_15 eh_15
    refine gk_goto (pc := 85) (tgt := 122) C.1 dX14_dependent_85 (by decide) ?_
    exact gh_vret (pc := 122) C S0 hret dX14_dependent_122 hw
def wb_X14_dependent_66 (cl : CT) (lm : Nat × Nat) (Q : QT) (E : ET) (x1 : Option Nat) (x3 : Int32) (x4 : Option Nat) (x5 : Option Nat) (x6 : Option Nat) (h : HS) : Prop := wb_X14_dependent_67 cl lm Q E x1 x3 x4 x5 x6 0 h
theorem wk_X14_dependent_66 {X : Ev} {G : GG} {cl : CT} {lm : Nat × Nat} {Q : QT} {E : ET} {h0 : HS} {d2 : Nat} (C : HC X G RX14 cX14_dependent (d2 + 1)) (hCl : CallsOK (ev_l X) G d2 cl ∧ hLm G lm ∧ 8 ≤ d2 ∧ LamsOK (ev_l X) G d2 cl) (S0 : HS0 X h0) (hret : (ev_h X).sig.returnType = (Option.none : Option Jvm.ClassFile.FieldType)) (hXn : ev_n X = 8) (hini : True) (hTb : (ev_c X).exceptionTable.toList = []) : ∀ (x1 : Option Nat) (x3 : Int32) (x4 : Option Nat) (x5 : Option Nat) (x6 : Option Nat) (h : HS), wb_X14_dependent_66 cl lm Q E x1 x3 x4 x5 x6 h → GH X G h (hQ X G h0 Q E) 66 [(1, va_rf x1), (3, .int x3), (4, va_rf x4), (5, va_rf x5), (6, va_rf x6)] [] := by
  have hlm := hCl.2.1
  have hd8 := hCl.2.2.1
  have hd2 : 1 ≤ d2 := Nat.le_trans (by decide) hd8
  have hLa := hCl.2.2.2
  have hd1 : 1 ≤ d2 + 1 := Nat.le_add_left _ _
  have hC9 := hCl
  replace hCl := hCl.1
  intro x1 x3 x4 x5 x6 h hw
  unfold wb_X14_dependent_66 at hw
  refine gk_iconst (pc := 66) (v := 0) C.1 dX14_dependent_66 (by decide) ?_
  refine GK.sub (lv' := [(1, va_rf x1), (3, .int x3), (4, va_rf x4), (5, va_rf x5), (6, va_rf x6)]) [0, 1, 2, 3, 4] rfl ?_
  exact wk_X14_dependent_67 C hC9 S0 hret hXn hini hTb  _ _ _ _ _ _ _ hw
def wb_X14_dependent (cl : CT) (lm : Nat × Nat) (Q : QT) (E : ET) (x0 : Nat) (x1 : Option Nat) (x2 : Option Nat) (x3 : Int32) (x4 : Option Nat) (h : HS) : Prop := ∃ a_1 : Nat, x1 = some a_1 ∧ ((hT h a_1 = 14) ∧ (∃ a_2 : Nat, x2 = some a_2 ∧ (dp_Rec_step cl a_2 [.int (hI h 46 a_1)] h (gR (fun r_4 h_3 => (hT h_3 a_1 = 14) ∧ (dp_Rec_step cl a_2 [.int (hI h_3 47 a_1)] h_3 (gR (fun r_8 h_7 => (r_4 = none → (wb_X14_dependent_66 cl lm Q E (some a_1) x3 x4 none r_8 h_7)) ∧ (∀ a_12 : Nat, r_4 = some a_12 → ((r_8 = none → (wb_X14_dependent_66 cl lm Q E (some a_1) x3 x4 (some a_12) none h_7)) ∧ (∀ a_14 : Nat, r_8 = some a_14 → ((hT h_7 a_1 = 14) ∧ (∃ a_15 : Nat, x4 = some a_15 ∧ (dp_Finding_below cl a_15 [.int ((10 * x3) + (hI h_7 46 a_1))] h_7 (gI (fun r_17 h_16 => (hT h_16 a_1 = 14) ∧ (dp_Finding_below cl a_15 [.int ((10 * x3) + (hI h_16 47 a_1))] h_16 (gI (fun r_21 h_20 => ((¬ (r_17 + r_21) = 0 → (wb_X14_dependent_66 cl lm Q E (some a_1) x3 (some a_15) (some a_12) (some a_14) h_20)) ∧ ((r_17 + r_21) = 0 → (wb_X14_dependent_67 cl lm Q E (some a_1) x3 (some a_15) (some a_12) (some a_14) 1 h_20))))) E))) E)))))))) E))) E)))
theorem wx_X14_dependent {l : Launch} (hst : l.stackTraces = false) {G : GG} {cl : CT} {lm : Nat × Nat} {Q : QT} {E : ET} {d2 : Nat} (hCl : CallsOK l G d2 cl ∧ hLm G lm ∧ 8 ≤ d2 ∧ LamsOK l G d2 cl) {x0 : Nat} {x1 : Option Nat} {x2 : Option Nat} {x3 : Int32} {x4 : Option Nat} {h : HS} (hw : wb_X14_dependent cl lm Q E x0 x1 x2 x3 x4 h) : HMet l G yX14_dependent (ws_ yX14_dependent cX14_dependent 8 ((Option.none : Option Jvm.ClassFile.FieldType))) (d2 + 1) [.ref x0, va_rf x1, va_rf x2, .int x3, va_rf x4] h Q E := by
  refine gh_met (own := RX14) rfl (by decide +kernel) hst (by simp only [lg_sl_i, lg_sl_r, lg_sl_a, lg_sl_2, lg_sl_f, lg_sl_0]; decide) (fun X hXl hXn hret hnm hTb h0 eh C S0 => ?_)
  subst hXl
  have hlm := hCl.2.1
  have hd8 := hCl.2.2.1
  have hd2 : 1 ≤ d2 := Nat.le_trans (by decide) hd8
  have hLa := hCl.2.2.2
  have hd1 : 1 ≤ d2 + 1 := Nat.le_add_left _ _
  have hC9 := hCl
  replace hCl := hCl.1
  have hini : True := trivial
  unfold wb_X14_dependent at hw
  refine GK.sub (lv' := [(0, .ref x0), (1, va_rf x1), (2, va_rf x2), (3, .int x3), (4, va_rf x4)]) [0, 1, 2, 3, 4] (by simp only [lv_args_i, lv_args_r, lv_args_a, lv_args_l, lv_args_f, lv_args_0]; rfl) ?_
  refine gk_qload_n (pc := 0) C.1 2 dX14_dependent_0 rfl rfl ?_
  refine gk_qload_n (pc := 1) C.1 1 dX14_dependent_1 rfl rfl ?_
  obtain ⟨a_1, rfl, hw⟩ := hw
  obtain ⟨ht, hw⟩ := hw
  refine gf_X14_97 (pc := 2) C ht dX14_dependent_2 ?_
  obtain ⟨a_2, rfl, hw⟩ := hw
  refine gc_X14_72 (pc := 5) (As := [.int (hI h 46 a_1)]) (rest := []) C hCl (Nat.le_refl _) hw rfl rfl (Nat.le_of_ble_eq_true rfl) dX14_dependent_5 (fun v9 h_3 hp => ?_) (fun q_5 h_6 hw ht9 => ?_)
  rotate_left
  · exact gx_out C S0 (by rw [hTb]; decide) ht9 hw
  clear hw
  obtain ⟨r_4, rfl, hw⟩ := hp
  refine GK.at (p2 := 8) rfl ?_
  refine gk_qstore (pc := 8) (lv' := [(5, va_rf r_4), (0, Value.ref x0), (1, Value.ref a_1), (2, Value.ref a_2), (3, Value.int x3), (4, va_rf x4)]) C.1 dX14_dependent_8 (by rw [hXn]; decide) (by first | rfl | simp [va_rf_S, va_rf_cat, cat_i, cat_a, cat_l, cat_f, fin4_0, fin4_1, fin4_2, fin4_3]) ?_
  refine gk_aload_n (pc := 10) C.1 3 dX14_dependent_10 rfl rfl ?_
  refine gk_aload_n (pc := 11) C.1 2 dX14_dependent_11 rfl rfl ?_
  obtain ⟨ht, hw⟩ := hw
  refine gf_X14_100 (pc := 12) C ht dX14_dependent_12 ?_
  refine gc_X14_72 (pc := 15) (As := [.int (hI h_3 47 a_1)]) (rest := []) C hCl (Nat.le_refl _) hw rfl rfl (Nat.le_of_ble_eq_true rfl) dX14_dependent_15 (fun v9 h_7 hp => ?_) (fun q_9 h_10 hw ht9 => ?_)
  rotate_left
  · exact gx_out C S0 (by rw [hTb]; decide) ht9 hw
  clear hw
  obtain ⟨r_8, rfl, hw⟩ := hp
  refine GK.at (p2 := 18) rfl ?_
  refine gk_qstore (pc := 18) (lv' := [(6, va_rf r_8), (5, va_rf r_4), (0, Value.ref x0), (1, Value.ref a_1), (2, Value.ref a_2), (3, Value.int x3), (4, va_rf x4)]) C.1 dX14_dependent_18 (by rw [hXn]; decide) (by first | rfl | simp [va_rf_S, va_rf_cat, cat_i, cat_a, cat_l, cat_f, fin4_0, fin4_1, fin4_2, fin4_3]) ?_
  refine gk_qload (pc := 20) C.1 1 dX14_dependent_20 rfl ?_
  refine gk_ifnull (pc := 22) (tgt := 66) C.1 dX14_dependent_22 (by decide) (fun c_11 => ?_) (fun c_11 => ?_)
  · replace hw := hw.1 c_11
    subst c_11
    refine GK.sub (lv' := [(1, va_rf (some a_1)), (3, .int x3), (4, va_rf x4), (5, va_rf none), (6, va_rf r_8)]) [3, 5, 6, 1, 0] rfl ?_
    exact wk_X14_dependent_66 C hC9 S0 hret hXn hini hTb  _ _ _ _ _ _ hw
  · obtain ⟨a_12, c_11⟩ := Option.ne_none_iff_exists'.mp c_11
    replace hw := hw.2 a_12 c_11
    subst c_11
    refine gk_qload (pc := 25) C.1 0 dX14_dependent_25 rfl ?_
    refine gk_ifnull (pc := 27) (tgt := 66) C.1 dX14_dependent_27 (by decide) (fun c_13 => ?_) (fun c_13 => ?_)
    · replace hw := hw.1 c_13
      subst c_13
      refine GK.sub (lv' := [(1, va_rf (some a_1)), (3, .int x3), (4, va_rf x4), (5, va_rf (some a_12)), (6, va_rf none)]) [3, 5, 6, 1, 0] rfl ?_
      exact wk_X14_dependent_66 C hC9 S0 hret hXn hini hTb  _ _ _ _ _ _ hw
    · obtain ⟨a_14, c_13⟩ := Option.ne_none_iff_exists'.mp c_13
      replace hw := hw.2 a_14 c_13
      subst c_13
      refine gk_qload (pc := 30) C.1 6 dX14_dependent_30 rfl ?_
      refine gk_bipush (pc := 32) (v := 10) C.1 dX14_dependent_32 (by decide) ?_
      refine gk_iload_n (pc := 34) C.1 5 dX14_dependent_34 rfl rfl ?_
      refine gk_imul (pc := 35) C.1 dX14_dependent_35 ?_
      refine gk_aload_n (pc := 36) C.1 3 dX14_dependent_36 rfl rfl ?_
      obtain ⟨ht, hw⟩ := hw
      refine gf_X14_97 (pc := 37) C ht dX14_dependent_37 ?_
      refine gk_iadd (pc := 40) C.1 dX14_dependent_40 ?_
      obtain ⟨a_15, rfl, hw⟩ := hw
      refine gc_X14_103 (pc := 41) (As := [.int ((10 * x3) + (hI h_7 46 a_1))]) (rest := []) C hCl (Nat.le_refl _) hw rfl rfl (Nat.le_of_ble_eq_true rfl) dX14_dependent_41 (fun v9 h_16 hp => ?_) (fun q_18 h_19 hw ht9 => ?_)
      rotate_left
      · exact gx_out C S0 (by rw [hTb]; decide) ht9 hw
      clear hw
      obtain ⟨r_17, rfl, hw⟩ := hp
      refine GK.at (p2 := 44) rfl ?_
      refine gk_aload (pc := 44) C.1 6 dX14_dependent_44 rfl ?_
      refine gk_bipush (pc := 46) (v := 10) C.1 dX14_dependent_46 (by decide) ?_
      refine gk_iload_n (pc := 48) C.1 5 dX14_dependent_48 rfl rfl ?_
      refine gk_imul (pc := 49) C.1 dX14_dependent_49 ?_
      refine gk_aload_n (pc := 50) C.1 3 dX14_dependent_50 rfl rfl ?_
      obtain ⟨ht, hw⟩ := hw
      refine gf_X14_100 (pc := 51) C ht dX14_dependent_51 ?_
      refine gk_iadd (pc := 54) C.1 dX14_dependent_54 ?_
      refine gc_X14_103 (pc := 55) (As := [.int ((10 * x3) + (hI h_16 47 a_1))]) (rest := [.int r_17]) C hCl (Nat.le_refl _) hw rfl rfl (Nat.le_of_ble_eq_true rfl) dX14_dependent_55 (fun v9 h_20 hp => ?_) (fun q_22 h_23 hw ht9 => ?_)
      rotate_left
      · exact gx_out C S0 (by rw [hTb]; decide) ht9 hw
      clear hw
      obtain ⟨r_21, rfl, hw⟩ := hp
      refine GK.at (p2 := 58) rfl ?_
      refine gk_iadd (pc := 58) C.1 dX14_dependent_58 ?_
      refine gk_if_ne (pc := 59) (tgt := 66) C.1 dX14_dependent_59 (by decide) (fun c_24 => ?_) (fun c_24 => ?_)
      · replace hw := hw.1 c_24
        refine GK.sub (lv' := [(1, va_rf (some a_1)), (3, .int x3), (4, va_rf (some a_15)), (5, va_rf (some a_12)), (6, va_rf (some a_14))]) [3, 5, 6, 1, 0] rfl ?_
        exact wk_X14_dependent_66 C hC9 S0 hret hXn hini hTb  _ _ _ _ _ _ hw
      · replace hw := hw.2 c_24
        refine gk_iconst (pc := 62) (v := 1) C.1 dX14_dependent_62 (by decide) ?_
        refine gk_goto (pc := 63) (tgt := 67) C.1 dX14_dependent_63 (by decide) ?_
        refine GK.sub (lv' := [(1, va_rf (some a_1)), (3, .int x3), (4, va_rf (some a_15)), (5, va_rf (some a_12)), (6, va_rf (some a_14))]) [3, 5, 6, 1, 0] rfl ?_
        exact wk_X14_dependent_67 C hC9 S0 hret hXn hini hTb  _ _ _ _ _ _ _ hw
/-! 227: GathersAllFaults$Spec.field(IZLGathersAllFaults$Look;)V -/
def wb_X14_field (cl : CT) (lm : Nat × Nat) (Q : QT) (E : ET) (x0 : Nat) (x1 : Int32) (x2 : Int32) (x3 : Option Nat) (h : HS) : Prop := (hT h x0 = 12) ∧ (∀ r_1 : Option Nat, r_1 = hR h 37 x0 → ((hT h x0 = 12) ∧ (hZ h + 1 ≤ lm.1 ∧ (hL h + 3 ≤ lm.2 ∧ (∀ (a_3 : Nat) (h_2 : HS), a_3 = hZ h → h_2 = hNew h 13 0 3 → (cl 234 (.ref a_3 :: [.int x1, .int x2, va_rf x3]) h_2 (gV (fun h_4 => ∃ a_7 : Nat, r_1 = some a_7 ∧ (hT h_4 a_7 = 117 ∧ (vp_in (hI h 38 x0) (hN h_4 a_7) ∧ (as_X15 h_4 (some a_3) ∧ (∀ h_8 : HS, h_8 = sB h_4 a_7 (hI h 38 x0).toNatClampNeg (some a_3) → ((hT h_8 x0 = 12) ∧ ((hT h_8 x0 = 12) ∧ (∀ h_9 : HS, h_9 = sI h_8 38 x0 ((hI h_8 38 x0) + 1) → (Q none h_9)))))))))) E))))))
theorem wx_X14_field {l : Launch} (hst : l.stackTraces = false) {G : GG} {cl : CT} {lm : Nat × Nat} {Q : QT} {E : ET} {d2 : Nat} (hCl : CallsOK l G d2 cl ∧ hLm G lm ∧ 8 ≤ d2 ∧ LamsOK l G d2 cl) {x0 : Nat} {x1 : Int32} {x2 : Int32} {x3 : Option Nat} {h : HS} (hw : wb_X14_field cl lm Q E x0 x1 x2 x3 h) : HMet l G yX14_field (ws_ yX14_field cX14_field 4 ((Option.none : Option Jvm.ClassFile.FieldType))) (d2 + 1) [.ref x0, .int x1, .int x2, va_rf x3] h Q E := by
  refine gh_met (own := RX14) rfl (by decide +kernel) hst (by simp only [lg_sl_i, lg_sl_r, lg_sl_a, lg_sl_2, lg_sl_f, lg_sl_0]; decide) (fun X hXl hXn hret hnm hTb h0 eh C S0 => ?_)
  subst hXl
  have hlm := hCl.2.1
  have hd8 := hCl.2.2.1
  have hd2 : 1 ≤ d2 := Nat.le_trans (by decide) hd8
  have hLa := hCl.2.2.2
  have hd1 : 1 ≤ d2 + 1 := Nat.le_add_left _ _
  have hC9 := hCl
  replace hCl := hCl.1
  have hini : True := trivial
  unfold wb_X14_field at hw
  refine GK.sub (lv' := [(0, .ref x0), (1, .int x1), (2, .int x2), (3, va_rf x3)]) [0, 1, 2, 3] (by simp only [lv_args_i, lv_args_r, lv_args_a, lv_args_l, lv_args_f, lv_args_0]; rfl) ?_
  refine gk_aload_n (pc := 0) C.1 0 dX14_field_0 rfl rfl ?_
  obtain ⟨ht, hw⟩ := hw
  refine gf_X14_11 (pc := 1) C ht dX14_field_1 (fun r_1 er_1 => ?_)
  replace hw := hw r_1 er_1
  refine gk_aload_n (pc := 4) C.1 0 dX14_field_4 rfl rfl ?_
  obtain ⟨ht, hw⟩ := hw
  refine gf_X14_23 (pc := 5) C ht dX14_field_5 ?_
  obtain ⟨hr1, hr2, hw⟩ := hw
  refine gn_X14_9 (pc := 8) C (hlm.1 ▸ hr1) (hlm.2 ▸ hr2) dX14_field_8 (fun h_2 eh_2 => ?_)
  obtain ⟨a_3, ea_3⟩ : ∃ z : Nat, z = hZ h := ⟨_, rfl⟩
  rw [← ea_3]
  replace hw := hw a_3 h_2 ea_3 eh_2
  refine gk_dup (pc := 11) C.1 dX14_field_11 rfl ?_
  refine gk_iload_n (pc := 12) C.1 1 dX14_field_12 rfl rfl ?_
  refine gk_iload_n (pc := 13) C.1 2 dX14_field_13 rfl rfl ?_
  refine gk_qload_n (pc := 14) C.1 3 dX14_field_14 rfl rfl ?_
  refine gc_X14_30 (pc := 15) (As := [.int x1, .int x2, va_rf x3]) (rest := [.ref a_3, .int (hI h 38 x0), va_rf r_1]) C hCl (Nat.le_refl _) hw rfl rfl (by simp [va_rf_S, va_rf_cat, cat_i, cat_a, cat_l, cat_f, fin4_0, fin4_1, fin4_2, fin4_3]) dX14_field_15 (fun v9 h_4 hp => ?_) (fun q_5 h_6 hw ht9 => ?_)
  rotate_left
  · exact gx_out C S0 (by rw [hTb]; decide) ht9 hw
  clear hw
  obtain ⟨rfl, hw⟩ := hp
  refine GK.at (p2 := 18) rfl ?_
  obtain ⟨a_7, rfl, hw⟩ := hw
  obtain ⟨ht, hi, hs, hw⟩ := hw
  refine gh_aast (pc := 18) (r := (some a_3)) (t0 := 9) (E := "GathersAllFaults$Field") C ht (by decide) (by decide) rfl (as_X15_ok hs) hi dX14_field_18 ?_
  obtain ⟨h_8, eh_8⟩ : ∃ z : HS, z = sB h_4 a_7 (hI h 38 x0).toNatClampNeg (some a_3) := ⟨_, rfl⟩
  rw [← eh_8]
  replace hw := hw h_8 eh_8
  refine gk_aload_n (pc := 19) C.1 0 dX14_field_19 rfl rfl ?_
  refine gk_dup (pc := 20) C.1 dX14_field_20 rfl ?_
  obtain ⟨ht, hw⟩ := hw
  refine gf_X14_23 (pc := 21) C ht dX14_field_21 ?_
  refine gk_iconst (pc := 24) (v := 1) C.1 dX14_field_24 (by decide) ?_
  refine gk_iadd (pc := 25) C.1 dX14_field_25 ?_
  obtain ⟨ht, hw⟩ := hw
  refine gfp_X14_23 (pc := 26) C ht dX14_field_26 (fun h_9 eh_9 => ?_)
  replace hw := hw h_9 eh_9
  exact gh_vret (pc := 29) C S0 hret dX14_field_29 hw
/-! 228: GathersAllFaults$Spec.hangs(LGathersAllFaults$Both;III)V -/
def wb_X14_hangs (cl : CT) (lm : Nat × Nat) (Q : QT) (E : ET) (x0 : Nat) (x1 : Option Nat) (x2 : Int32) (x3 : Int32) (x4 : Int32) (h : HS) : Prop := (hT h x0 = 12) ∧ (∀ r_1 : Option Nat, r_1 = hR h 39 x0 → ((hT h x0 = 12) ∧ (hZ h + 1 ≤ lm.1 ∧ (hL h + 4 ≤ lm.2 ∧ (∀ (a_3 : Nat) (h_2 : HS), a_3 = hZ h → h_2 = hNew h 14 0 4 → (cl 235 (.ref a_3 :: [va_rf x1, .int x2, .int x3, .int x4]) h_2 (gV (fun h_4 => ∃ a_7 : Nat, r_1 = some a_7 ∧ (hT h_4 a_7 = 118 ∧ (vp_in (hI h 40 x0) (hN h_4 a_7) ∧ (as_X16 h_4 (some a_3) ∧ (∀ h_8 : HS, h_8 = sB h_4 a_7 (hI h 40 x0).toNatClampNeg (some a_3) → ((hT h_8 x0 = 12) ∧ ((hT h_8 x0 = 12) ∧ (∀ h_9 : HS, h_9 = sI h_8 40 x0 ((hI h_8 40 x0) + 1) → (Q none h_9)))))))))) E))))))
theorem wx_X14_hangs {l : Launch} (hst : l.stackTraces = false) {G : GG} {cl : CT} {lm : Nat × Nat} {Q : QT} {E : ET} {d2 : Nat} (hCl : CallsOK l G d2 cl ∧ hLm G lm ∧ 8 ≤ d2 ∧ LamsOK l G d2 cl) {x0 : Nat} {x1 : Option Nat} {x2 : Int32} {x3 : Int32} {x4 : Int32} {h : HS} (hw : wb_X14_hangs cl lm Q E x0 x1 x2 x3 x4 h) : HMet l G yX14_hangs (ws_ yX14_hangs cX14_hangs 5 ((Option.none : Option Jvm.ClassFile.FieldType))) (d2 + 1) [.ref x0, va_rf x1, .int x2, .int x3, .int x4] h Q E := by
  refine gh_met (own := RX14) rfl (by decide +kernel) hst (by simp only [lg_sl_i, lg_sl_r, lg_sl_a, lg_sl_2, lg_sl_f, lg_sl_0]; decide) (fun X hXl hXn hret hnm hTb h0 eh C S0 => ?_)
  subst hXl
  have hlm := hCl.2.1
  have hd8 := hCl.2.2.1
  have hd2 : 1 ≤ d2 := Nat.le_trans (by decide) hd8
  have hLa := hCl.2.2.2
  have hd1 : 1 ≤ d2 + 1 := Nat.le_add_left _ _
  have hC9 := hCl
  replace hCl := hCl.1
  have hini : True := trivial
  unfold wb_X14_hangs at hw
  refine GK.sub (lv' := [(0, .ref x0), (1, va_rf x1), (2, .int x2), (3, .int x3), (4, .int x4)]) [0, 1, 2, 3, 4] (by simp only [lv_args_i, lv_args_r, lv_args_a, lv_args_l, lv_args_f, lv_args_0]; rfl) ?_
  refine gk_aload_n (pc := 0) C.1 0 dX14_hangs_0 rfl rfl ?_
  obtain ⟨ht, hw⟩ := hw
  refine gf_X14_19 (pc := 1) C ht dX14_hangs_1 (fun r_1 er_1 => ?_)
  replace hw := hw r_1 er_1
  refine gk_aload_n (pc := 4) C.1 0 dX14_hangs_4 rfl rfl ?_
  obtain ⟨ht, hw⟩ := hw
  refine gf_X14_33 (pc := 5) C ht dX14_hangs_5 ?_
  obtain ⟨hr1, hr2, hw⟩ := hw
  refine gn_X14_17 (pc := 8) C (hlm.1 ▸ hr1) (hlm.2 ▸ hr2) dX14_hangs_8 (fun h_2 eh_2 => ?_)
  obtain ⟨a_3, ea_3⟩ : ∃ z : Nat, z = hZ h := ⟨_, rfl⟩
  rw [← ea_3]
  replace hw := hw a_3 h_2 ea_3 eh_2
  refine gk_dup (pc := 11) C.1 dX14_hangs_11 rfl ?_
  refine gk_qload_n (pc := 12) C.1 1 dX14_hangs_12 rfl rfl ?_
  refine gk_iload_n (pc := 13) C.1 2 dX14_hangs_13 rfl rfl ?_
  refine gk_iload_n (pc := 14) C.1 3 dX14_hangs_14 rfl rfl ?_
  refine gk_iload (pc := 15) C.1 4 dX14_hangs_15 rfl ?_
  refine gc_X14_36 (pc := 17) (As := [va_rf x1, .int x2, .int x3, .int x4]) (rest := [.ref a_3, .int (hI h 40 x0), va_rf r_1]) C hCl (Nat.le_refl _) hw rfl rfl (by simp [va_rf_S, va_rf_cat, cat_i, cat_a, cat_l, cat_f, fin4_0, fin4_1, fin4_2, fin4_3]) dX14_hangs_17 (fun v9 h_4 hp => ?_) (fun q_5 h_6 hw ht9 => ?_)
  rotate_left
  · exact gx_out C S0 (by rw [hTb]; decide) ht9 hw
  clear hw
  obtain ⟨rfl, hw⟩ := hp
  refine GK.at (p2 := 20) rfl ?_
  obtain ⟨a_7, rfl, hw⟩ := hw
  obtain ⟨ht, hi, hs, hw⟩ := hw
  refine gh_aast (pc := 20) (r := (some a_3)) (t0 := 10) (E := "GathersAllFaults$Hanging") C ht (by decide) (by decide) rfl (as_X16_ok hs) hi dX14_hangs_20 ?_
  obtain ⟨h_8, eh_8⟩ : ∃ z : HS, z = sB h_4 a_7 (hI h 40 x0).toNatClampNeg (some a_3) := ⟨_, rfl⟩
  rw [← eh_8]
  replace hw := hw h_8 eh_8
  refine gk_aload_n (pc := 21) C.1 0 dX14_hangs_21 rfl rfl ?_
  refine gk_dup (pc := 22) C.1 dX14_hangs_22 rfl ?_
  obtain ⟨ht, hw⟩ := hw
  refine gf_X14_33 (pc := 23) C ht dX14_hangs_23 ?_
  refine gk_iconst (pc := 26) (v := 1) C.1 dX14_hangs_26 (by decide) ?_
  refine gk_iadd (pc := 27) C.1 dX14_hangs_27 ?_
  obtain ⟨ht, hw⟩ := hw
  refine gfp_X14_33 (pc := 28) C ht dX14_hangs_28 (fun h_9 eh_9 => ?_)
  replace hw := hw h_9 eh_9
  exact gh_vret (pc := 31) C S0 hret dX14_hangs_31 hw
/-! 229: GathersAllFaults$Spec.independent(LGathersAllFaults$Rec;ILGathersAllFaults$Finding;)V -/
def wb_X14_independent_87 (cl : CT) (lm : Nat × Nat) (Q : QT) (E : ET) (J3 : Nat → Option Nat → Int32 → Option Nat → Int32 → HS → Prop) (x0 : Nat) (x1 : Option Nat) (x2 : Int32) (x3 : Option Nat) (x4 : Int32) (h : HS) : Prop := ∀ x_1 : Int32, x_1 = x4 + 1 → (J3 x0 x1 x2 x3 x_1 h)
theorem wk_X14_independent_87 {X : Ev} {G : GG} {cl : CT} {lm : Nat × Nat} {Q : QT} {E : ET} {h0 : HS} {d2 : Nat} {J3 : Nat → Option Nat → Int32 → Option Nat → Int32 → HS → Prop} (C : HC X G RX14 cX14_independent (d2 + 1)) (hCl : CallsOK (ev_l X) G d2 cl ∧ hLm G lm ∧ 8 ≤ d2 ∧ LamsOK (ev_l X) G d2 cl) (S0 : HS0 X h0) (hret : (ev_h X).sig.returnType = (Option.none : Option Jvm.ClassFile.FieldType)) (hXn : ev_n X = 8) (hini : True) (hTb : (ev_c X).exceptionTable.toList = []) (hJ3 : ∀ (x0 : Nat) (x1 : Option Nat) (x2 : Int32) (x3 : Option Nat) (x4 : Int32) (h : HS), J3 x0 x1 x2 x3 x4 h → GH X G h (hQ X G h0 Q E) 3 [(0, .ref x0), (1, va_rf x1), (2, .int x2), (3, va_rf x3), (4, .int x4)] []) : ∀ (x0 : Nat) (x1 : Option Nat) (x2 : Int32) (x3 : Option Nat) (x4 : Int32) (h : HS), wb_X14_independent_87 cl lm Q E J3 x0 x1 x2 x3 x4 h → GH X G h (hQ X G h0 Q E) 87 [(0, .ref x0), (1, va_rf x1), (2, .int x2), (3, va_rf x3), (4, .int x4)] [] := by
  have hlm := hCl.2.1
  have hd8 := hCl.2.2.1
  have hd2 : 1 ≤ d2 := Nat.le_trans (by decide) hd8
  have hLa := hCl.2.2.2
  have hd1 : 1 ≤ d2 + 1 := Nat.le_add_left _ _
  have hC9 := hCl
  replace hCl := hCl.1
  intro x0 x1 x2 x3 x4 h hw
  unfold wb_X14_independent_87 at hw
  obtain ⟨x_1, ex_1⟩ : ∃ z : Int32, z = x4 + 1 := ⟨_, rfl⟩
  replace hw := hw x_1 ex_1
  refine gk_iinc (pc := 87) (v := x_1) (lv' := [(4, Value.int x_1), (0, Value.ref x0), (1, va_rf x1), (2, Value.int x2), (3, va_rf x3)]) C.1 4 dX14_independent_87 rfl (by rw [ex_1]; rfl) (by rw [hXn]; decide) (by first | rfl | simp [va_rf_S, va_rf_cat, cat_i, cat_a, cat_l, cat_f, fin4_0, fin4_1, fin4_2, fin4_3]) ?_
  refine gk_goto (pc := 90) (tgt := 3) C.1 dX14_independent_90 (by decide) ?_
  refine GK.sub (lv' := [(0, .ref x0), (1, va_rf x1), (2, .int x2), (3, va_rf x3), (4, .int x_1)]) [1, 2, 3, 4, 0] rfl ?_
  exact hJ3 _ _ _ _ _ _ hw
def wb_X14_independent_143 (cl : CT) (lm : Nat × Nat) (Q : QT) (E : ET) (J107 : Nat → Int32 → Option Nat → Option Nat → Int32 → Int32 → HS → Prop) (x0 : Nat) (x2 : Int32) (x3 : Option Nat) (x4 : Option Nat) (x5 : Int32) (x6 : Int32) (h : HS) : Prop := ∀ x_1 : Int32, x_1 = x6 + 1 → (J107 x0 x2 x3 x4 x5 x_1 h)
theorem wk_X14_independent_143 {X : Ev} {G : GG} {cl : CT} {lm : Nat × Nat} {Q : QT} {E : ET} {h0 : HS} {d2 : Nat} {J107 : Nat → Int32 → Option Nat → Option Nat → Int32 → Int32 → HS → Prop} (C : HC X G RX14 cX14_independent (d2 + 1)) (hCl : CallsOK (ev_l X) G d2 cl ∧ hLm G lm ∧ 8 ≤ d2 ∧ LamsOK (ev_l X) G d2 cl) (S0 : HS0 X h0) (hret : (ev_h X).sig.returnType = (Option.none : Option Jvm.ClassFile.FieldType)) (hXn : ev_n X = 8) (hini : True) (hTb : (ev_c X).exceptionTable.toList = []) (hJ107 : ∀ (x0 : Nat) (x2 : Int32) (x3 : Option Nat) (x4 : Option Nat) (x5 : Int32) (x6 : Int32) (h : HS), J107 x0 x2 x3 x4 x5 x6 h → GH X G h (hQ X G h0 Q E) 107 [(0, .ref x0), (2, .int x2), (3, va_rf x3), (4, va_rf x4), (5, .int x5), (6, .int x6)] []) : ∀ (x0 : Nat) (x2 : Int32) (x3 : Option Nat) (x4 : Option Nat) (x5 : Int32) (x6 : Int32) (h : HS), wb_X14_independent_143 cl lm Q E J107 x0 x2 x3 x4 x5 x6 h → GH X G h (hQ X G h0 Q E) 143 [(0, .ref x0), (2, .int x2), (3, va_rf x3), (4, va_rf x4), (5, .int x5), (6, .int x6)] [] := by
  have hlm := hCl.2.1
  have hd8 := hCl.2.2.1
  have hd2 : 1 ≤ d2 := Nat.le_trans (by decide) hd8
  have hLa := hCl.2.2.2
  have hd1 : 1 ≤ d2 + 1 := Nat.le_add_left _ _
  have hC9 := hCl
  replace hCl := hCl.1
  intro x0 x2 x3 x4 x5 x6 h hw
  unfold wb_X14_independent_143 at hw
  obtain ⟨x_1, ex_1⟩ : ∃ z : Int32, z = x6 + 1 := ⟨_, rfl⟩
  replace hw := hw x_1 ex_1
  refine gk_iinc (pc := 143) (v := x_1) (lv' := [(6, Value.int x_1), (0, Value.ref x0), (2, Value.int x2), (3, va_rf x3), (4, va_rf x4), (5, Value.int x5)]) C.1 5 dX14_independent_143 rfl (by rw [ex_1]; rfl) (by rw [hXn]; decide) (by first | rfl | simp [va_rf_S, va_rf_cat, cat_i, cat_a, cat_l, cat_f, fin4_0, fin4_1, fin4_2, fin4_3]) ?_
  refine gk_goto (pc := 146) (tgt := 107) C.1 dX14_independent_146 (by decide) ?_
  refine GK.sub (lv' := [(0, .ref x0), (2, .int x2), (3, va_rf x3), (4, va_rf x4), (5, .int x5), (6, .int x_1)]) [1, 2, 3, 4, 5, 0] rfl ?_
  exact hJ107 _ _ _ _ _ _ _ hw
def wb_X14_independent_107 (cl : CT) (lm : Nat × Nat) (Q : QT) (E : ET) : Nat → Nat → Int32 → Option Nat → Option Nat → Int32 → Int32 → HS → Prop
  | 0 => fun _ _ _ _ _ _ _ => False
  | n + 1 => fun x0 x2 x3 x4 x5 x6 h => ((x5 ≤ x6 → (Q none h)) ∧ (¬ x5 ≤ x6 → (∃ a_2 : Nat, x4 = some a_2 ∧ (hT h a_2 = 101 ∧ (vp_in x6 (hN h a_2) ∧ (∀ x_3 : Int32, x_3 = hA h a_2 x6.toNatClampNeg → (dp_Spec_isField cl x0 [.int x_3] h (gI (fun r_5 h_4 => ((¬ r_5 = 0 → (wb_X14_independent_143 cl lm Q E (fun yx0 yx2 yx3 yx4 yx5 yx6 yh => wb_X14_independent_107 cl lm Q E n yx0 yx2 yx3 yx4 yx5 yx6 yh) x0 x2 x3 (some a_2) x5 x6 h_4)) ∧ (r_5 = 0 → (∃ a_9 : Nat, x3 = some a_9 ∧ (dp_Finding_finds cl a_9 [.int ((10 * x2) + x_3), .int 7] h_4 (gV (fun h_10 => wb_X14_independent_143 cl lm Q E (fun yx0 yx2 yx3 yx4 yx5 yx6 yh => wb_X14_independent_107 cl lm Q E n yx0 yx2 yx3 yx4 yx5 yx6 yh) x0 x2 (some a_9) (some a_2) x5 x6 h_10)) E)))))) E)))))))
theorem wk_X14_independent_107 {X : Ev} {G : GG} {cl : CT} {lm : Nat × Nat} {Q : QT} {E : ET} {h0 : HS} {d2 : Nat} (C : HC X G RX14 cX14_independent (d2 + 1)) (hCl : CallsOK (ev_l X) G d2 cl ∧ hLm G lm ∧ 8 ≤ d2 ∧ LamsOK (ev_l X) G d2 cl) (S0 : HS0 X h0) (hret : (ev_h X).sig.returnType = (Option.none : Option Jvm.ClassFile.FieldType)) (hXn : ev_n X = 8) (hini : True) (hTb : (ev_c X).exceptionTable.toList = []) : ∀ (n : Nat) (x0 : Nat) (x2 : Int32) (x3 : Option Nat) (x4 : Option Nat) (x5 : Int32) (x6 : Int32) (h : HS), wb_X14_independent_107 cl lm Q E n x0 x2 x3 x4 x5 x6 h → GH X G h (hQ X G h0 Q E) 107 [(0, .ref x0), (2, .int x2), (3, va_rf x3), (4, va_rf x4), (5, .int x5), (6, .int x6)] [] := by
  have hlm := hCl.2.1
  have hd8 := hCl.2.2.1
  have hd2 : 1 ≤ d2 := Nat.le_trans (by decide) hd8
  have hLa := hCl.2.2.2
  have hd1 : 1 ≤ d2 + 1 := Nat.le_add_left _ _
  have hC9 := hCl
  replace hCl := hCl.1
  intro n
  induction n with
  | zero => intro x0 x2 x3 x4 x5 x6 h hw; exact hw.elim
  | succ n ih =>
  intro x0 x2 x3 x4 x5 x6 h hw
  unfold wb_X14_independent_107 at hw
  refine gk_iload (pc := 107) C.1 5 dX14_independent_107 rfl ?_
  refine gk_iload (pc := 109) C.1 4 dX14_independent_109 rfl ?_
  refine gk_icmp_ge (pc := 111) (tgt := 149) C.1 dX14_independent_111 (by decide) (fun c_1 => ?_) (fun c_1 => ?_)
  · replace hw := hw.1 c_1
    exact gh_vret (pc := 149) C S0 hret dX14_independent_149 hw
  · replace hw := hw.2 c_1
    refine gk_qload (pc := 114) C.1 3 dX14_independent_114 rfl ?_
    refine gk_iload (pc := 116) C.1 5 dX14_independent_116 rfl ?_
    obtain ⟨a_2, rfl, hw⟩ := hw
    obtain ⟨ht, hi, hw⟩ := hw
    refine gh_iald (pc := 118) C ht hi dX14_independent_118 ?_
    obtain ⟨x_3, ex_3⟩ : ∃ z : Int32, z = hA h a_2 x6.toNatClampNeg := ⟨_, rfl⟩
    rw [← ex_3]
    replace hw := hw x_3 ex_3
    refine gk_istore (pc := 119) (lv' := [(7, Value.int x_3), (0, Value.ref x0), (2, Value.int x2), (3, va_rf x3), (4, Value.ref a_2), (5, Value.int x5), (6, Value.int x6)]) C.1 dX14_independent_119 (by rw [hXn]; decide) (by first | rfl | simp [va_rf_S, va_rf_cat, cat_i, cat_a, cat_l, cat_f, fin4_0, fin4_1, fin4_2, fin4_3]) ?_
    refine gk_aload_n (pc := 121) C.1 1 dX14_independent_121 rfl rfl ?_
    refine gk_iload (pc := 122) C.1 0 dX14_independent_122 rfl ?_
    refine gc_X14_93 (pc := 124) (As := [.int x_3]) (rest := []) C hCl (Nat.le_refl _) hw rfl rfl (Nat.le_of_ble_eq_true rfl) dX14_independent_124 (fun v9 h_4 hp => ?_) (fun q_6 h_7 hw ht9 => ?_)
    rotate_left
    · exact gx_out C S0 (by rw [hTb]; decide) ht9 hw
    clear hw
    obtain ⟨r_5, rfl, hw⟩ := hp
    refine GK.at (p2 := 127) rfl ?_
    refine gk_if_ne (pc := 127) (tgt := 143) C.1 dX14_independent_127 (by decide) (fun c_8 => ?_) (fun c_8 => ?_)
    · replace hw := hw.1 c_8
      refine GK.sub (lv' := [(0, .ref x0), (2, .int x2), (3, va_rf x3), (4, va_rf (some a_2)), (5, .int x5), (6, .int x6)]) [1, 2, 3, 4, 5, 6] rfl ?_
      exact wk_X14_independent_143 C hC9 S0 hret hXn hini hTb ih _ _ _ _ _ _ _ hw
    · replace hw := hw.2 c_8
      refine gk_qload_n (pc := 130) C.1 3 dX14_independent_130 rfl rfl ?_
      refine gk_bipush (pc := 131) (v := 10) C.1 dX14_independent_131 (by decide) ?_
      refine gk_iload_n (pc := 133) C.1 2 dX14_independent_133 rfl rfl ?_
      refine gk_imul (pc := 134) C.1 dX14_independent_134 ?_
      refine gk_iload (pc := 135) C.1 0 dX14_independent_135 rfl ?_
      refine gk_iadd (pc := 137) C.1 dX14_independent_137 ?_
      refine gk_bipush (pc := 138) (v := 7) C.1 dX14_independent_138 (by decide) ?_
      obtain ⟨a_9, rfl, hw⟩ := hw
      refine gc_X14_41 (pc := 140) (As := [.int ((10 * x2) + x_3), .int 7]) (rest := []) C hCl (Nat.le_refl _) hw rfl rfl (Nat.le_of_ble_eq_true rfl) dX14_independent_140 (fun v9 h_10 hp => ?_) (fun q_11 h_12 hw ht9 => ?_)
      rotate_left
      · exact gx_out C S0 (by rw [hTb]; decide) ht9 hw
      clear hw
      obtain ⟨rfl, hw⟩ := hp
      refine GK.at (p2 := 143) rfl ?_
      refine GK.sub (lv' := [(0, .ref x0), (2, .int x2), (3, va_rf (some a_9)), (4, va_rf (some a_2)), (5, .int x5), (6, .int x6)]) [1, 2, 3, 4, 5, 6] rfl ?_
      exact wk_X14_independent_143 C hC9 S0 hret hXn hini hTb ih _ _ _ _ _ _ _ hw
def wb_X14_independent_3 (cl : CT) (lm : Nat × Nat) (Q : QT) (E : ET) : Nat → Nat → Option Nat → Int32 → Option Nat → Int32 → HS → Prop
  | 0 => fun _ _ _ _ _ _ => False
  | n + 1 => fun x0 x1 x2 x3 x4 h => (hT h x0 = 12) ∧ ((((hI h 38 x0) ≤ x4 → (∃ a_2 : Nat, x1 = some a_2 ∧ ((hT h a_2 = 4) ∧ (∀ r_3 : Option Nat, r_3 = hR h 19 a_2 → (∃ a_4 : Nat, r_3 = some a_4 ∧ (hT h a_4 = 101 ∧ (∀ x_5 : Int32, x_5 = nI (hN h a_4) → (∃ fu : Nat, wb_X14_independent_107 cl lm Q E fu x0 x2 x3 (some a_4) x_5 0 h)))))))) ∧ (¬ (hI h 38 x0) ≤ x4 → ((hT h x0 = 12) ∧ (∀ r_6 : Option Nat, r_6 = hR h 37 x0 → (∃ a_7 : Nat, r_6 = some a_7 ∧ (hT h a_7 = 117 ∧ (vp_in x4 (hN h a_7) ∧ (∀ r_8 : Option Nat, r_8 = hB h a_7 x4.toNatClampNeg → (∃ a_9 : Nat, r_8 = some a_9 ∧ ((hT h a_9 = 13) ∧ (∃ a_10 : Nat, x1 = some a_10 ∧ (dp_Rec_step cl a_10 [.int (hI h 41 a_9)] h (gR (fun r_12 h_11 => (r_12 = none → ((hT h_11 a_9 = 13) ∧ (((¬ (hI h_11 42 a_9) = 0 → (wb_X14_independent_87 cl lm Q E (fun yx0 yx1 yx2 yx3 yx4 yh => wb_X14_independent_3 cl lm Q E n yx0 yx1 yx2 yx3 yx4 yh) x0 (some a_10) x2 x3 x4 h_11)) ∧ ((hI h_11 42 a_9) = 0 → ((hT h_11 a_9 = 13) ∧ (∃ a_18 : Nat, x3 = some a_18 ∧ (dp_Finding_finds cl a_18 [.int ((10 * x2) + (hI h_11 41 a_9)), .int 6] h_11 (gV (fun h_19 => wb_X14_independent_87 cl lm Q E (fun yx0 yx1 yx2 yx3 yx4 yh => wb_X14_independent_3 cl lm Q E n yx0 yx1 yx2 yx3 yx4 yh) x0 (some a_10) x2 (some a_18) x4 h_19)) E)))))))) ∧ (∀ a_16 : Nat, r_12 = some a_16 → ((hT h_11 a_9 = 13) ∧ (∀ r_22 : Option Nat, r_22 = hR h_11 43 a_9 → ((hT h_11 a_9 = 13) ∧ (∃ a_23 : Nat, r_22 = some a_23 ∧ (dl_Look cl a_23 [.ref a_16, .int ((10 * x2) + (hI h_11 41 a_9)), va_rf x3] h_11 (gV (fun h_24 => wb_X14_independent_87 cl lm Q E (fun yx0 yx1 yx2 yx3 yx4 yh => wb_X14_independent_3 cl lm Q E n yx0 yx1 yx2 yx3 yx4 yh) x0 (some a_10) x2 x3 x4 h_24)) E)))))))) E)))))))))))))
theorem wk_X14_independent_3 {X : Ev} {G : GG} {cl : CT} {lm : Nat × Nat} {Q : QT} {E : ET} {h0 : HS} {d2 : Nat} (C : HC X G RX14 cX14_independent (d2 + 1)) (hCl : CallsOK (ev_l X) G d2 cl ∧ hLm G lm ∧ 8 ≤ d2 ∧ LamsOK (ev_l X) G d2 cl) (S0 : HS0 X h0) (hret : (ev_h X).sig.returnType = (Option.none : Option Jvm.ClassFile.FieldType)) (hXn : ev_n X = 8) (hini : True) (hTb : (ev_c X).exceptionTable.toList = []) : ∀ (n : Nat) (x0 : Nat) (x1 : Option Nat) (x2 : Int32) (x3 : Option Nat) (x4 : Int32) (h : HS), wb_X14_independent_3 cl lm Q E n x0 x1 x2 x3 x4 h → GH X G h (hQ X G h0 Q E) 3 [(0, .ref x0), (1, va_rf x1), (2, .int x2), (3, va_rf x3), (4, .int x4)] [] := by
  have hlm := hCl.2.1
  have hd8 := hCl.2.2.1
  have hd2 : 1 ≤ d2 := Nat.le_trans (by decide) hd8
  have hLa := hCl.2.2.2
  have hd1 : 1 ≤ d2 + 1 := Nat.le_add_left _ _
  have hC9 := hCl
  replace hCl := hCl.1
  intro n
  induction n with
  | zero => intro x0 x1 x2 x3 x4 h hw; exact hw.elim
  | succ n ih =>
  intro x0 x1 x2 x3 x4 h hw
  unfold wb_X14_independent_3 at hw
  refine gk_iload (pc := 3) C.1 4 dX14_independent_3 rfl ?_
  refine gk_aload_n (pc := 5) C.1 0 dX14_independent_5 rfl rfl ?_
  obtain ⟨ht, hw⟩ := hw
  refine gf_X14_23 (pc := 6) C ht dX14_independent_6 ?_
  refine gk_icmp_ge (pc := 9) (tgt := 93) C.1 dX14_independent_9 (by decide) (fun c_1 => ?_) (fun c_1 => ?_)
  · replace hw := hw.1 c_1
    refine gk_qload_n (pc := 93) C.1 1 dX14_independent_93 rfl rfl ?_
    obtain ⟨a_2, rfl, hw⟩ := hw
    obtain ⟨ht, hw⟩ := hw
    refine gf_X14_89 (pc := 94) C ht dX14_independent_94 (fun r_3 er_3 => ?_)
    replace hw := hw r_3 er_3
    refine gk_qstore (pc := 97) (lv' := [(4, va_rf r_3), (0, Value.ref x0), (1, Value.ref a_2), (2, Value.int x2), (3, va_rf x3)]) C.1 dX14_independent_97 (by rw [hXn]; decide) (by first | rfl | simp [va_rf_S, va_rf_cat, cat_i, cat_a, cat_l, cat_f, fin4_0, fin4_1, fin4_2, fin4_3]) ?_
    refine gk_qload (pc := 99) C.1 0 dX14_independent_99 rfl ?_
    obtain ⟨a_4, rfl, hw⟩ := hw
    obtain ⟨ht, hw⟩ := hw
    refine gh_len (pc := 101) (t0 := 0) (ty := tyA 101) C ht (by decide) rfl dX14_independent_101 ?_
    obtain ⟨x_5, ex_5⟩ : ∃ z : Int32, z = nI (hN h a_4) := ⟨_, rfl⟩
    rw [← ex_5]
    replace hw := hw x_5 ex_5
    refine gk_istore (pc := 102) (lv' := [(5, Value.int x_5), (4, Value.ref a_4), (0, Value.ref x0), (1, Value.ref a_2), (2, Value.int x2), (3, va_rf x3)]) C.1 dX14_independent_102 (by rw [hXn]; decide) (by first | rfl | simp [va_rf_S, va_rf_cat, cat_i, cat_a, cat_l, cat_f, fin4_0, fin4_1, fin4_2, fin4_3]) ?_
    refine gk_iconst (pc := 104) (v := 0) C.1 dX14_independent_104 (by decide) ?_
    refine gk_istore (pc := 105) (lv' := [(6, Value.int 0), (5, Value.int x_5), (4, Value.ref a_4), (0, Value.ref x0), (1, Value.ref a_2), (2, Value.int x2), (3, va_rf x3)]) C.1 dX14_independent_105 (by rw [hXn]; decide) (by first | rfl | simp [va_rf_S, va_rf_cat, cat_i, cat_a, cat_l, cat_f, fin4_0, fin4_1, fin4_2, fin4_3]) ?_
    refine GK.sub (lv' := [(0, .ref x0), (2, .int x2), (3, va_rf x3), (4, va_rf (some a_4)), (5, .int x_5), (6, .int 0)]) [3, 5, 6, 2, 1, 0] rfl ?_
    obtain ⟨n9, hw⟩ := hw
    exact wk_X14_independent_107 C hC9 S0 hret hXn hini hTb  n9 _ _ _ _ _ _ _ hw
  · replace hw := hw.2 c_1
    refine gk_aload_n (pc := 12) C.1 0 dX14_independent_12 rfl rfl ?_
    obtain ⟨ht, hw⟩ := hw
    refine gf_X14_11 (pc := 13) C ht dX14_independent_13 (fun r_6 er_6 => ?_)
    replace hw := hw r_6 er_6
    refine gk_iload (pc := 16) C.1 4 dX14_independent_16 rfl ?_
    obtain ⟨a_7, rfl, hw⟩ := hw
    obtain ⟨ht, hi, hw⟩ := hw
    refine gh_aald (pc := 18) (t0 := 9) (E := "GathersAllFaults$Field") C ht (by decide) (by decide) rfl hi dX14_independent_18 ?_
    obtain ⟨r_8, er_8⟩ : ∃ z : Option Nat, z = hB h a_7 x4.toNatClampNeg := ⟨_, rfl⟩
    rw [← er_8]
    replace hw := hw r_8 er_8
    refine gk_qstore (pc := 19) (lv' := [(5, va_rf r_8), (0, Value.ref x0), (1, va_rf x1), (2, Value.int x2), (3, va_rf x3), (4, Value.int x4)]) C.1 dX14_independent_19 (by rw [hXn]; decide) (by first | rfl | simp [va_rf_S, va_rf_cat, cat_i, cat_a, cat_l, cat_f, fin4_0, fin4_1, fin4_2, fin4_3]) ?_
    refine gk_qload_n (pc := 21) C.1 2 dX14_independent_21 rfl rfl ?_
    refine gk_qload (pc := 22) C.1 0 dX14_independent_22 rfl ?_
    obtain ⟨a_9, rfl, hw⟩ := hw
    obtain ⟨ht, hw⟩ := hw
    refine gf_X14_27 (pc := 24) C ht dX14_independent_24 ?_
    obtain ⟨a_10, rfl, hw⟩ := hw
    refine gc_X14_72 (pc := 27) (As := [.int (hI h 41 a_9)]) (rest := []) C hCl (Nat.le_refl _) hw rfl rfl (Nat.le_of_ble_eq_true rfl) dX14_independent_27 (fun v9 h_11 hp => ?_) (fun q_13 h_14 hw ht9 => ?_)
    rotate_left
    · exact gx_out C S0 (by rw [hTb]; decide) ht9 hw
    clear hw
    obtain ⟨r_12, rfl, hw⟩ := hp
    refine GK.at (p2 := 30) rfl ?_
    refine gk_qstore (pc := 30) (lv' := [(6, va_rf r_12), (5, Value.ref a_9), (0, Value.ref x0), (1, Value.ref a_10), (2, Value.int x2), (3, va_rf x3), (4, Value.int x4)]) C.1 dX14_independent_30 (by rw [hXn]; decide) (by first | rfl | simp [va_rf_S, va_rf_cat, cat_i, cat_a, cat_l, cat_f, fin4_0, fin4_1, fin4_2, fin4_3]) ?_
    refine gk_qload (pc := 32) C.1 0 dX14_independent_32 rfl ?_
    refine gk_ifnull (pc := 34) (tgt := 63) C.1 dX14_independent_34 (by decide) (fun c_15 => ?_) (fun c_15 => ?_)
    · replace hw := hw.1 c_15
      subst c_15
      refine gk_aload (pc := 63) C.1 1 dX14_independent_63 rfl ?_
      obtain ⟨ht, hw⟩ := hw
      refine gf_X14_85 (pc := 65) C ht dX14_independent_65 ?_
      refine gk_if_ne (pc := 68) (tgt := 87) C.1 dX14_independent_68 (by decide) (fun c_17 => ?_) (fun c_17 => ?_)
      · replace hw := hw.1 c_17
        refine GK.sub (lv' := [(0, .ref x0), (1, va_rf (some a_10)), (2, .int x2), (3, va_rf x3), (4, .int x4)]) [2, 3, 4, 5, 6] rfl ?_
        exact wk_X14_independent_87 C hC9 S0 hret hXn hini hTb ih _ _ _ _ _ _ hw
      · replace hw := hw.2 c_17
        refine gk_qload_n (pc := 71) C.1 5 dX14_independent_71 rfl rfl ?_
        refine gk_bipush (pc := 72) (v := 10) C.1 dX14_independent_72 (by decide) ?_
        refine gk_iload_n (pc := 74) C.1 4 dX14_independent_74 rfl rfl ?_
        refine gk_imul (pc := 75) C.1 dX14_independent_75 ?_
        refine gk_aload (pc := 76) C.1 1 dX14_independent_76 rfl ?_
        obtain ⟨ht, hw⟩ := hw
        refine gf_X14_27 (pc := 78) C ht dX14_independent_78 ?_
        refine gk_iadd (pc := 81) C.1 dX14_independent_81 ?_
        refine gk_bipush (pc := 82) (v := 6) C.1 dX14_independent_82 (by decide) ?_
        obtain ⟨a_18, rfl, hw⟩ := hw
        refine gc_X14_41 (pc := 84) (As := [.int ((10 * x2) + (hI h_11 41 a_9)), .int 6]) (rest := []) C hCl (Nat.le_refl _) hw rfl rfl (Nat.le_of_ble_eq_true rfl) dX14_independent_84 (fun v9 h_19 hp => ?_) (fun q_20 h_21 hw ht9 => ?_)
        rotate_left
        · exact gx_out C S0 (by rw [hTb]; decide) ht9 hw
        clear hw
        obtain ⟨rfl, hw⟩ := hp
        refine GK.at (p2 := 87) rfl ?_
        refine GK.sub (lv' := [(0, .ref x0), (1, va_rf (some a_10)), (2, .int x2), (3, va_rf (some a_18)), (4, .int x4)]) [2, 3, 4, 5, 6] rfl ?_
        exact wk_X14_independent_87 C hC9 S0 hret hXn hini hTb ih _ _ _ _ _ _ hw
    · obtain ⟨a_16, c_15⟩ := Option.ne_none_iff_exists'.mp c_15
      replace hw := hw.2 a_16 c_15
      subst c_15
      refine gk_aload (pc := 37) C.1 1 dX14_independent_37 rfl ?_
      obtain ⟨ht, hw⟩ := hw
      refine gf_X14_75 (pc := 39) C ht dX14_independent_39 (fun r_22 er_22 => ?_)
      replace hw := hw r_22 er_22
      refine gk_aload (pc := 42) C.1 0 dX14_independent_42 rfl ?_
      refine gk_bipush (pc := 44) (v := 10) C.1 dX14_independent_44 (by decide) ?_
      refine gk_iload_n (pc := 46) C.1 4 dX14_independent_46 rfl rfl ?_
      refine gk_imul (pc := 47) C.1 dX14_independent_47 ?_
      refine gk_aload (pc := 48) C.1 1 dX14_independent_48 rfl ?_
      obtain ⟨ht, hw⟩ := hw
      refine gf_X14_27 (pc := 50) C ht dX14_independent_50 ?_
      refine gk_iadd (pc := 53) C.1 dX14_independent_53 ?_
      refine gk_qload_n (pc := 54) C.1 5 dX14_independent_54 rfl rfl ?_
      obtain ⟨a_23, rfl, hw⟩ := hw
      refine gcl_X14_79 (pc := 55) (As := [.ref a_16, .int ((10 * x2) + (hI h_11 41 a_9)), va_rf x3]) (rest := []) C hLa (Nat.le_refl _) hw rfl rfl (Nat.le_of_ble_eq_true rfl) dX14_independent_55 (fun v9 h_24 hp => ?_) (fun q_25 h_26 hw ht9 => ?_)
      rotate_left
      · exact gx_out C S0 (by rw [hTb]; decide) ht9 hw
      clear hw
      obtain ⟨rfl, hw⟩ := hp
      refine GK.at (p2 := 60) rfl ?_
      refine gk_goto (pc := 60) (tgt := 87) C.1 dX14_independent_60 (by decide) ?_
      refine GK.sub (lv' := [(0, .ref x0), (1, va_rf (some a_10)), (2, .int x2), (3, va_rf x3), (4, .int x4)]) [2, 3, 4, 5, 6] rfl ?_
      exact wk_X14_independent_87 C hC9 S0 hret hXn hini hTb ih _ _ _ _ _ _ hw
def wb_X14_independent (cl : CT) (lm : Nat × Nat) (Q : QT) (E : ET) (x0 : Nat) (x1 : Option Nat) (x2 : Int32) (x3 : Option Nat) (h : HS) : Prop := ∃ fu : Nat, wb_X14_independent_3 cl lm Q E fu x0 x1 x2 x3 0 h
theorem wx_X14_independent {l : Launch} (hst : l.stackTraces = false) {G : GG} {cl : CT} {lm : Nat × Nat} {Q : QT} {E : ET} {d2 : Nat} (hCl : CallsOK l G d2 cl ∧ hLm G lm ∧ 8 ≤ d2 ∧ LamsOK l G d2 cl) {x0 : Nat} {x1 : Option Nat} {x2 : Int32} {x3 : Option Nat} {h : HS} (hw : wb_X14_independent cl lm Q E x0 x1 x2 x3 h) : HMet l G yX14_independent (ws_ yX14_independent cX14_independent 8 ((Option.none : Option Jvm.ClassFile.FieldType))) (d2 + 1) [.ref x0, va_rf x1, .int x2, va_rf x3] h Q E := by
  refine gh_met (own := RX14) rfl (by decide +kernel) hst (by simp only [lg_sl_i, lg_sl_r, lg_sl_a, lg_sl_2, lg_sl_f, lg_sl_0]; decide) (fun X hXl hXn hret hnm hTb h0 eh C S0 => ?_)
  subst hXl
  have hlm := hCl.2.1
  have hd8 := hCl.2.2.1
  have hd2 : 1 ≤ d2 := Nat.le_trans (by decide) hd8
  have hLa := hCl.2.2.2
  have hd1 : 1 ≤ d2 + 1 := Nat.le_add_left _ _
  have hC9 := hCl
  replace hCl := hCl.1
  have hini : True := trivial
  unfold wb_X14_independent at hw
  refine GK.sub (lv' := [(0, .ref x0), (1, va_rf x1), (2, .int x2), (3, va_rf x3)]) [0, 1, 2, 3] (by simp only [lv_args_i, lv_args_r, lv_args_a, lv_args_l, lv_args_f, lv_args_0]; rfl) ?_
  refine gk_iconst (pc := 0) (v := 0) C.1 dX14_independent_0 (by decide) ?_
  refine gk_istore (pc := 1) (lv' := [(4, Value.int 0), (0, Value.ref x0), (1, va_rf x1), (2, Value.int x2), (3, va_rf x3)]) C.1 dX14_independent_1 (by rw [hXn]; decide) (by first | rfl | simp [va_rf_S, va_rf_cat, cat_i, cat_a, cat_l, cat_f, fin4_0, fin4_1, fin4_2, fin4_3]) ?_
  refine GK.sub (lv' := [(0, .ref x0), (1, va_rf x1), (2, .int x2), (3, va_rf x3), (4, .int 0)]) [1, 2, 3, 4, 0] rfl ?_
  obtain ⟨n9, hw⟩ := hw
  exact wk_X14_independent_3 C hC9 S0 hret hXn hini hTb  n9 _ _ _ _ _ _ hw
/-! 230: GathersAllFaults$Spec.<init>()V -/
def wb_X14_init (cl : CT) (lm : Nat × Nat) (Q : QT) (E : ET) (x0 : Nat) (h : HS) : Prop := ¬ (96 : Int32) < 0 ∧ ((96 : Int32).toNatClampNeg * 4 ≤ 536870912 ∧ (hZ h + 1 ≤ lm.1 ∧ (hL h + (96 : Int32).toNatClampNeg ≤ lm.2 ∧ (∀ (a_2 : Nat) (h_1 : HS), a_2 = hZ h → h_1 = hNew h 117 (96 : Int32).toNatClampNeg (96 : Int32).toNatClampNeg → ((hT h_1 x0 = 12) ∧ (∀ h_3 : HS, h_3 = sR h_1 37 x0 (some a_2) → (¬ (96 : Int32) < 0 ∧ ((96 : Int32).toNatClampNeg * 4 ≤ 536870912 ∧ (hZ h_3 + 1 ≤ lm.1 ∧ (hL h_3 + (96 : Int32).toNatClampNeg ≤ lm.2 ∧ (∀ (a_5 : Nat) (h_4 : HS), a_5 = hZ h_3 → h_4 = hNew h_3 118 (96 : Int32).toNatClampNeg (96 : Int32).toNatClampNeg → ((hT h_4 x0 = 12) ∧ (∀ h_6 : HS, h_6 = sR h_4 39 x0 (some a_5) → (Q none h_6))))))))))))))
theorem wx_X14_init {l : Launch} (hst : l.stackTraces = false) {G : GG} {cl : CT} {lm : Nat × Nat} {Q : QT} {E : ET} {d2 : Nat} (hCl : CallsOK l G d2 cl ∧ hLm G lm ∧ 8 ≤ d2 ∧ LamsOK l G d2 cl) {x0 : Nat} {h : HS} (hw : wb_X14_init cl lm Q E x0 h) : HMet l G yX14_init (ws_ yX14_init cX14_init 1 ((Option.none : Option Jvm.ClassFile.FieldType))) (d2 + 1) [.ref x0] h Q E := by
  refine gh_met (own := RX14) rfl (by decide +kernel) hst (by simp only [lg_sl_i, lg_sl_r, lg_sl_a, lg_sl_2, lg_sl_f, lg_sl_0]; decide) (fun X hXl hXn hret hnm hTb h0 eh C S0 => ?_)
  subst hXl
  have hlm := hCl.2.1
  have hd8 := hCl.2.2.1
  have hd2 : 1 ≤ d2 := Nat.le_trans (by decide) hd8
  have hLa := hCl.2.2.2
  have hd1 : 1 ≤ d2 + 1 := Nat.le_add_left _ _
  have hC9 := hCl
  replace hCl := hCl.1
  have hini : (ev_h X).name = "<init>" := hnm.1
  unfold wb_X14_init at hw
  refine GK.sub (lv' := [(0, .ref x0)]) [0] (by simp only [lv_args_i, lv_args_r, lv_args_a, lv_args_l, lv_args_f, lv_args_0]; rfl) ?_
  refine gk_aload_n (pc := 0) C.1 0 dX14_init_0 rfl rfl ?_
  refine gh_obj (pc := 1) C hd1 q1315 (Nat.le_of_ble_eq_true rfl) dX14_init_1 ?_
  refine gk_aload_n (pc := 4) C.1 0 dX14_init_4 rfl rfl ?_
  refine gk_bipush (pc := 5) (v := 96) C.1 dX14_init_5 (by decide) ?_
  obtain ⟨hn0, hby, hr1, hr2, hw⟩ := hw
  refine gh_anew (pc := 7) (t := 117) (t0 := 9) (E := "GathersAllFaults$Field") C ⟨by decide, by decide⟩ rfl q1316 q1317 hn0 hby (hlm.1 ▸ hr1) (hlm.2 ▸ hr2) dX14_init_7 ?_
  obtain ⟨h_1, eh_1⟩ : ∃ z : HS, z = hNew h 117 (96 : Int32).toNatClampNeg (96 : Int32).toNatClampNeg := ⟨_, rfl⟩
  rw [← eh_1]
  obtain ⟨a_2, ea_2⟩ : ∃ z : Nat, z = hZ h := ⟨_, rfl⟩
  rw [← ea_2]
  replace hw := hw a_2 h_1 ea_2 eh_1
  obtain ⟨ht, hw⟩ := hw
  refine gfp_X14_11 (pc := 10) (r := (some a_2)) C hini ht dX14_init_10 (fun h_3 eh_3 => ?_)
  replace hw := hw h_3 eh_3
  refine gk_aload_n (pc := 13) C.1 0 dX14_init_13 rfl rfl ?_
  refine gk_bipush (pc := 14) (v := 96) C.1 dX14_init_14 (by decide) ?_
  obtain ⟨hn0, hby, hr1, hr2, hw⟩ := hw
  refine gh_anew (pc := 16) (t := 118) (t0 := 10) (E := "GathersAllFaults$Hanging") C ⟨by decide, by decide⟩ rfl q1318 q1319 hn0 hby (hlm.1 ▸ hr1) (hlm.2 ▸ hr2) dX14_init_16 ?_
  obtain ⟨h_4, eh_4⟩ : ∃ z : HS, z = hNew h_3 118 (96 : Int32).toNatClampNeg (96 : Int32).toNatClampNeg := ⟨_, rfl⟩
  rw [← eh_4]
  obtain ⟨a_5, ea_5⟩ : ∃ z : Nat, z = hZ h_3 := ⟨_, rfl⟩
  rw [← ea_5]
  replace hw := hw a_5 h_4 ea_5 eh_4
  obtain ⟨ht, hw⟩ := hw
  refine gfp_X14_19 (pc := 19) (r := (some a_5)) C hini ht dX14_init_19 (fun h_6 eh_6 => ?_)
  replace hw := hw h_6 eh_6
  exact gh_vret (pc := 22) C S0 hret dX14_init_22 hw
/-! 231: GathersAllFaults$Spec.isField(I)Z -/
def wb_X14_isField_2 (cl : CT) (lm : Nat × Nat) (Q : QT) (E : ET) : Nat → Nat → Int32 → Int32 → HS → Prop
  | 0 => fun _ _ _ _ => False
  | n + 1 => fun x0 x1 x2 h => (hT h x0 = 12) ∧ ((((hI h 38 x0) ≤ x2 → (Q (some (.int 0)) h)) ∧ (¬ (hI h 38 x0) ≤ x2 → ((hT h x0 = 12) ∧ (∀ r_2 : Option Nat, r_2 = hR h 37 x0 → (∃ a_3 : Nat, r_2 = some a_3 ∧ (hT h a_3 = 117 ∧ (vp_in x2 (hN h a_3) ∧ (∀ r_4 : Option Nat, r_4 = hB h a_3 x2.toNatClampNeg → (∃ a_5 : Nat, r_4 = some a_5 ∧ ((hT h a_5 = 13) ∧ (((¬ (hI h 41 a_5) = x1 → (∀ x_7 : Int32, x_7 = x2 + 1 → (wb_X14_isField_2 cl lm Q E n x0 x1 x_7 h))) ∧ ((hI h 41 a_5) = x1 → (Q (some (.int 1)) h)))))))))))))))
theorem wk_X14_isField_2 {X : Ev} {G : GG} {cl : CT} {lm : Nat × Nat} {Q : QT} {E : ET} {h0 : HS} {d2 : Nat} (C : HC X G RX14 cX14_isField (d2 + 1)) (hCl : CallsOK (ev_l X) G d2 cl ∧ hLm G lm ∧ 8 ≤ d2 ∧ LamsOK (ev_l X) G d2 cl) (S0 : HS0 X h0) (hret : (ev_h X).sig.returnType = (Option.some Jvm.ClassFile.FieldType.boolean)) (hXn : ev_n X = 3) (hini : True) (hTb : (ev_c X).exceptionTable.toList = []) : ∀ (n : Nat) (x0 : Nat) (x1 : Int32) (x2 : Int32) (h : HS), wb_X14_isField_2 cl lm Q E n x0 x1 x2 h → GH X G h (hQ X G h0 Q E) 2 [(0, .ref x0), (1, .int x1), (2, .int x2)] [] := by
  have hlm := hCl.2.1
  have hd8 := hCl.2.2.1
  have hd2 : 1 ≤ d2 := Nat.le_trans (by decide) hd8
  have hLa := hCl.2.2.2
  have hd1 : 1 ≤ d2 + 1 := Nat.le_add_left _ _
  have hC9 := hCl
  replace hCl := hCl.1
  intro n
  induction n with
  | zero => intro x0 x1 x2 h hw; exact hw.elim
  | succ n ih =>
  intro x0 x1 x2 h hw
  unfold wb_X14_isField_2 at hw
  refine gk_iload_n (pc := 2) C.1 2 dX14_isField_2 rfl rfl ?_
  refine gk_aload_n (pc := 3) C.1 0 dX14_isField_3 rfl rfl ?_
  obtain ⟨ht, hw⟩ := hw
  refine gf_X14_23 (pc := 4) C ht dX14_isField_4 ?_
  refine gk_icmp_ge (pc := 7) (tgt := 31) C.1 dX14_isField_7 (by decide) (fun c_1 => ?_) (fun c_1 => ?_)
  · replace hw := hw.1 c_1
    refine gk_iconst (pc := 31) (v := 0) C.1 dX14_isField_31 (by decide) ?_
    exact gh_zret (pc := 32) C S0 hret dX14_isField_32 bz0 hw
  · replace hw := hw.2 c_1
    refine gk_aload_n (pc := 10) C.1 0 dX14_isField_10 rfl rfl ?_
    obtain ⟨ht, hw⟩ := hw
    refine gf_X14_11 (pc := 11) C ht dX14_isField_11 (fun r_2 er_2 => ?_)
    replace hw := hw r_2 er_2
    refine gk_iload_n (pc := 14) C.1 2 dX14_isField_14 rfl rfl ?_
    obtain ⟨a_3, rfl, hw⟩ := hw
    obtain ⟨ht, hi, hw⟩ := hw
    refine gh_aald (pc := 15) (t0 := 9) (E := "GathersAllFaults$Field") C ht (by decide) (by decide) rfl hi dX14_isField_15 ?_
    obtain ⟨r_4, er_4⟩ : ∃ z : Option Nat, z = hB h a_3 x2.toNatClampNeg := ⟨_, rfl⟩
    rw [← er_4]
    replace hw := hw r_4 er_4
    obtain ⟨a_5, rfl, hw⟩ := hw
    obtain ⟨ht, hw⟩ := hw
    refine gf_X14_27 (pc := 16) C ht dX14_isField_16 ?_
    refine gk_iload_n (pc := 19) C.1 1 dX14_isField_19 rfl rfl ?_
    refine gk_icmp_ne (pc := 20) (tgt := 25) C.1 dX14_isField_20 (by decide) (fun c_6 => ?_) (fun c_6 => ?_)
    · replace hw := hw.1 c_6
      obtain ⟨x_7, ex_7⟩ : ∃ z : Int32, z = x2 + 1 := ⟨_, rfl⟩
      replace hw := hw x_7 ex_7
      refine gk_iinc (pc := 25) (v := x_7) (lv' := [(2, Value.int x_7), (0, Value.ref x0), (1, Value.int x1)]) C.1 2 dX14_isField_25 rfl (by rw [ex_7]; rfl) (by rw [hXn]; decide) (by first | rfl | simp [va_rf_S, va_rf_cat, cat_i, cat_a, cat_l, cat_f, fin4_0, fin4_1, fin4_2, fin4_3]) ?_
      refine gk_goto (pc := 28) (tgt := 2) C.1 dX14_isField_28 (by decide) ?_
      refine GK.sub (lv' := [(0, .ref x0), (1, .int x1), (2, .int x_7)]) [1, 2, 0] rfl ?_
      exact ih _ _ _ _ hw
    · replace hw := hw.2 c_6
      refine gk_iconst (pc := 23) (v := 1) C.1 dX14_isField_23 (by decide) ?_
      exact gh_zret (pc := 24) C S0 hret dX14_isField_24 bz1 hw
def wb_X14_isField (cl : CT) (lm : Nat × Nat) (Q : QT) (E : ET) (x0 : Nat) (x1 : Int32) (h : HS) : Prop := ∃ fu : Nat, wb_X14_isField_2 cl lm Q E fu x0 x1 0 h
theorem wx_X14_isField {l : Launch} (hst : l.stackTraces = false) {G : GG} {cl : CT} {lm : Nat × Nat} {Q : QT} {E : ET} {d2 : Nat} (hCl : CallsOK l G d2 cl ∧ hLm G lm ∧ 8 ≤ d2 ∧ LamsOK l G d2 cl) {x0 : Nat} {x1 : Int32} {h : HS} (hw : wb_X14_isField cl lm Q E x0 x1 h) : HMet l G yX14_isField (ws_ yX14_isField cX14_isField 3 ((Option.some Jvm.ClassFile.FieldType.boolean))) (d2 + 1) [.ref x0, .int x1] h Q E := by
  refine gh_met (own := RX14) rfl (by decide +kernel) hst (by simp only [lg_sl_i, lg_sl_r, lg_sl_a, lg_sl_2, lg_sl_f, lg_sl_0]; decide) (fun X hXl hXn hret hnm hTb h0 eh C S0 => ?_)
  subst hXl
  have hlm := hCl.2.1
  have hd8 := hCl.2.2.1
  have hd2 : 1 ≤ d2 := Nat.le_trans (by decide) hd8
  have hLa := hCl.2.2.2
  have hd1 : 1 ≤ d2 + 1 := Nat.le_add_left _ _
  have hC9 := hCl
  replace hCl := hCl.1
  have hini : True := trivial
  unfold wb_X14_isField at hw
  refine GK.sub (lv' := [(0, .ref x0), (1, .int x1)]) [0, 1] (by simp only [lv_args_i, lv_args_r, lv_args_a, lv_args_l, lv_args_f, lv_args_0]; rfl) ?_
  refine gk_iconst (pc := 0) (v := 0) C.1 dX14_isField_0 (by decide) ?_
  refine gk_istore_n (pc := 1) (lv' := [(2, Value.int 0), (0, Value.ref x0), (1, Value.int x1)]) C.1 dX14_isField_1 rfl (by rw [hXn]; decide) (by first | rfl | simp [va_rf_S, va_rf_cat, cat_i, cat_a, cat_l, cat_f, fin4_0, fin4_1, fin4_2, fin4_3]) ?_
  refine GK.sub (lv' := [(0, .ref x0), (1, .int x1), (2, .int 0)]) [1, 2, 0] rfl ?_
  obtain ⟨n9, hw⟩ := hw
  exact wk_X14_isField_2 C hC9 S0 hret hXn hini hTb  n9 _ _ _ _ hw
/-! 232: GathersAllFaults$Spec.look()LGathersAllFaults$Look; -/
def wb_X14_look (cl : CT) (lm : Nat × Nat) (Q : QT) (E : ET) (x0 : Nat) (h : HS) : Prop := hZ h + 1 ≤ lm.1 ∧ (hL h + 1 ≤ lm.2 ∧ (∀ (a_1 : Nat) (h_2 : HS), a_1 = hZ h → h_2 = sR (hNew h 206 0 1) 90 (hZ h) (some x0) → (Q (some (va_rf (some a_1))) h_2)))
theorem wx_X14_look {l : Launch} (hst : l.stackTraces = false) {G : GG} {cl : CT} {lm : Nat × Nat} {Q : QT} {E : ET} {d2 : Nat} (hCl : CallsOK l G d2 cl ∧ hLm G lm ∧ 8 ≤ d2 ∧ LamsOK l G d2 cl) {x0 : Nat} {h : HS} (hw : wb_X14_look cl lm Q E x0 h) : HMet l G yX14_look (ws_ yX14_look cX14_look 1 ((Option.some (Jvm.ClassFile.FieldType.object "GathersAllFaults$Look")))) (d2 + 1) [.ref x0] h Q E := by
  refine gh_met (own := RX14) rfl (by decide +kernel) hst (by simp only [lg_sl_i, lg_sl_r, lg_sl_a, lg_sl_2, lg_sl_f, lg_sl_0]; decide) (fun X hXl hXn hret hnm hTb h0 eh C S0 => ?_)
  subst hXl
  have hlm := hCl.2.1
  have hd8 := hCl.2.2.1
  have hd2 : 1 ≤ d2 := Nat.le_trans (by decide) hd8
  have hLa := hCl.2.2.2
  have hd1 : 1 ≤ d2 + 1 := Nat.le_add_left _ _
  have hC9 := hCl
  replace hCl := hCl.1
  have hini : (ev_s X).methodNamed? yX14_look = some (ev_m X) := hnm.2
  unfold wb_X14_look at hw
  refine GK.sub (lv' := [(0, .ref x0)]) [0] (by simp only [lv_args_i, lv_args_r, lv_args_a, lv_args_l, lv_args_f, lv_args_0]; rfl) ?_
  refine gk_aload_n (pc := 0) C.1 0 dX14_look_0 rfl rfl ?_
  obtain ⟨hr1, hr2, hw⟩ := hw
  refine gd_6 (r0 := (some x0)) C hini (hlm.1 ▸ hr1) (hlm.2 ▸ hr2) (Nat.le_of_ble_eq_true rfl) dX14_look_1 (fun a_1 h_2 ea_1 eh_2 => ?_)
  replace hw := hw a_1 h_2 ea_1 eh_2
  exact gh_aret (pc := 6) (r := (some a_1)) C S0 hret (Or.inl ⟨_, rfl⟩) dX14_look_6 hw
/-! 233: GathersAllFaults$Spec.lookAt(LGathersAllFaults$Value;ILGathersAllFaults$Finding;)V -/
def wb_X14_lookAt_53 (cl : CT) (lm : Nat × Nat) (Q : QT) (E : ET) : Nat → Nat → Int32 → Option Nat → Option Nat → Int32 → Option Nat → Int32 → HS → Prop
  | 0 => fun _ _ _ _ _ _ _ _ => False
  | n + 1 => fun x0 x2 x3 x4 x5 x6 x7 h => (hT h x0 = 12) ∧ ((((hI h 40 x0) ≤ x7 → (∃ a_2 : Nat, x3 = some a_2 ∧ (dp_Finding_and cl a_2 [va_rf x6] h (gR (fun r_4 h_3 => ∃ a_7 : Nat, r_4 = some a_7 ∧ ((hT h_3 a_7 = 9) ∧ (∀ r_8 : Option Nat, r_8 = hR h_3 27 a_7 → (∃ a_9 : Nat, r_8 = some a_9 ∧ ((hT h_3 a_9 = 10) ∧ (∀ h_10 : HS, h_10 = sI h_3 31 a_9 x5 → (Q none h_10)))))))) E))) ∧ (¬ (hI h 40 x0) ≤ x7 → ((hT h x0 = 12) ∧ (∀ r_11 : Option Nat, r_11 = hR h 39 x0 → (∃ a_12 : Nat, r_11 = some a_12 ∧ (hT h a_12 = 118 ∧ (vp_in x7 (hN h a_12) ∧ (∀ r_13 : Option Nat, r_13 = hB h a_12 x7.toNatClampNeg → (dp_Spec_dependent cl x0 [va_rf r_13, va_rf x4, .int x2, va_rf x6] h (gV (fun h_14 => ∀ x_17 : Int32, x_17 = x7 + 1 → (wb_X14_lookAt_53 cl lm Q E n x0 x2 x3 x4 x5 x6 x_17 h_14))) E))))))))))
theorem wk_X14_lookAt_53 {X : Ev} {G : GG} {cl : CT} {lm : Nat × Nat} {Q : QT} {E : ET} {h0 : HS} {d2 : Nat} (C : HC X G RX14 cX14_lookAt (d2 + 1)) (hCl : CallsOK (ev_l X) G d2 cl ∧ hLm G lm ∧ 8 ≤ d2 ∧ LamsOK (ev_l X) G d2 cl) (S0 : HS0 X h0) (hret : (ev_h X).sig.returnType = (Option.none : Option Jvm.ClassFile.FieldType)) (hXn : ev_n X = 8) (hini : True) (hTb : (ev_c X).exceptionTable.toList = []) : ∀ (n : Nat) (x0 : Nat) (x2 : Int32) (x3 : Option Nat) (x4 : Option Nat) (x5 : Int32) (x6 : Option Nat) (x7 : Int32) (h : HS), wb_X14_lookAt_53 cl lm Q E n x0 x2 x3 x4 x5 x6 x7 h → GH X G h (hQ X G h0 Q E) 53 [(0, .ref x0), (2, .int x2), (3, va_rf x3), (4, va_rf x4), (5, .int x5), (6, va_rf x6), (7, .int x7)] [] := by
  have hlm := hCl.2.1
  have hd8 := hCl.2.2.1
  have hd2 : 1 ≤ d2 := Nat.le_trans (by decide) hd8
  have hLa := hCl.2.2.2
  have hd1 : 1 ≤ d2 + 1 := Nat.le_add_left _ _
  have hC9 := hCl
  replace hCl := hCl.1
  intro n
  induction n with
  | zero => intro x0 x2 x3 x4 x5 x6 x7 h hw; exact hw.elim
  | succ n ih =>
  intro x0 x2 x3 x4 x5 x6 x7 h hw
  unfold wb_X14_lookAt_53 at hw
  refine gk_iload (pc := 53) C.1 6 dX14_lookAt_53 rfl ?_
  refine gk_aload_n (pc := 55) C.1 0 dX14_lookAt_55 rfl rfl ?_
  obtain ⟨ht, hw⟩ := hw
  refine gf_X14_33 (pc := 56) C ht dX14_lookAt_56 ?_
  refine gk_icmp_ge (pc := 59) (tgt := 84) C.1 dX14_lookAt_59 (by decide) (fun c_1 => ?_) (fun c_1 => ?_)
  · replace hw := hw.1 c_1
    refine gk_qload_n (pc := 84) C.1 2 dX14_lookAt_84 rfl rfl ?_
    refine gk_qload (pc := 85) C.1 5 dX14_lookAt_85 rfl ?_
    obtain ⟨a_2, rfl, hw⟩ := hw
    refine gc_X14_68 (pc := 87) (As := [va_rf x6]) (rest := []) C hCl (Nat.le_refl _) hw rfl rfl (Nat.le_of_ble_eq_true rfl) dX14_lookAt_87 (fun v9 h_3 hp => ?_) (fun q_5 h_6 hw ht9 => ?_)
    rotate_left
    · exact gx_out C S0 (by rw [hTb]; decide) ht9 hw
    clear hw
    obtain ⟨r_4, rfl, hw⟩ := hp
    refine GK.at (p2 := 90) rfl ?_
    obtain ⟨a_7, rfl, hw⟩ := hw
    obtain ⟨ht, hw⟩ := hw
    refine gf_X14_47 (pc := 90) C ht dX14_lookAt_90 (fun r_8 er_8 => ?_)
    replace hw := hw r_8 er_8
    refine gk_iload (pc := 93) C.1 4 dX14_lookAt_93 rfl ?_
    obtain ⟨a_9, rfl, hw⟩ := hw
    obtain ⟨ht, hw⟩ := hw
    refine gfp_X14_51 (pc := 95) C ht dX14_lookAt_95 (fun h_10 eh_10 => ?_)
    replace hw := hw h_10 eh_10
    exact gh_vret (pc := 98) C S0 hret dX14_lookAt_98 hw
  · replace hw := hw.2 c_1
    refine gk_aload_n (pc := 62) C.1 0 dX14_lookAt_62 rfl rfl ?_
    refine gk_aload_n (pc := 63) C.1 0 dX14_lookAt_63 rfl rfl ?_
    obtain ⟨ht, hw⟩ := hw
    refine gf_X14_19 (pc := 64) C ht dX14_lookAt_64 (fun r_11 er_11 => ?_)
    replace hw := hw r_11 er_11
    refine gk_iload (pc := 67) C.1 6 dX14_lookAt_67 rfl ?_
    obtain ⟨a_12, rfl, hw⟩ := hw
    obtain ⟨ht, hi, hw⟩ := hw
    refine gh_aald (pc := 69) (t0 := 10) (E := "GathersAllFaults$Hanging") C ht (by decide) (by decide) rfl hi dX14_lookAt_69 ?_
    obtain ⟨r_13, er_13⟩ : ∃ z : Option Nat, z = hB h a_12 x7.toNatClampNeg := ⟨_, rfl⟩
    rw [← er_13]
    replace hw := hw r_13 er_13
    refine gk_qload (pc := 70) C.1 3 dX14_lookAt_70 rfl ?_
    refine gk_iload_n (pc := 72) C.1 1 dX14_lookAt_72 rfl rfl ?_
    refine gk_qload (pc := 73) C.1 5 dX14_lookAt_73 rfl ?_
    refine gc_X14_64 (pc := 75) (As := [va_rf r_13, va_rf x4, .int x2, va_rf x6]) (rest := []) C hCl (Nat.le_refl _) hw rfl rfl (Nat.le_of_ble_eq_true rfl) dX14_lookAt_75 (fun v9 h_14 hp => ?_) (fun q_15 h_16 hw ht9 => ?_)
    rotate_left
    · exact gx_out C S0 (by rw [hTb]; decide) ht9 hw
    clear hw
    obtain ⟨rfl, hw⟩ := hp
    refine GK.at (p2 := 78) rfl ?_
    obtain ⟨x_17, ex_17⟩ : ∃ z : Int32, z = x7 + 1 := ⟨_, rfl⟩
    replace hw := hw x_17 ex_17
    refine gk_iinc (pc := 78) (v := x_17) (lv' := [(7, Value.int x_17), (0, Value.ref x0), (2, Value.int x2), (3, va_rf x3), (4, va_rf x4), (5, Value.int x5), (6, va_rf x6)]) C.1 6 dX14_lookAt_78 rfl (by rw [ex_17]; rfl) (by rw [hXn]; decide) (by first | rfl | simp [va_rf_S, va_rf_cat, cat_i, cat_a, cat_l, cat_f, fin4_0, fin4_1, fin4_2, fin4_3]) ?_
    refine gk_goto (pc := 81) (tgt := 53) C.1 dX14_lookAt_81 (by decide) ?_
    refine GK.sub (lv' := [(0, .ref x0), (2, .int x2), (3, va_rf x3), (4, va_rf x4), (5, .int x5), (6, va_rf x6), (7, .int x_17)]) [1, 2, 3, 4, 5, 6, 0] rfl ?_
    exact ih _ _ _ _ _ _ _ _ hw
def wb_X14_lookAt (cl : CT) (lm : Nat × Nat) (Q : QT) (E : ET) (x0 : Nat) (x1 : Option Nat) (x2 : Int32) (x3 : Option Nat) (h : HS) : Prop := (∃ a_1 : Nat, x1 = some a_1 ∧ ((hT h a_1 = 4) ∧ (ck_GathersAllFaults_Rec h (some a_1) ∧ (∃ a_2 : Nat, x3 = some a_2 ∧ ((hT h a_2 = 9) ∧ (∀ r_3 : Option Nat, r_3 = hR h 27 a_2 → (∃ a_4 : Nat, r_3 = some a_4 ∧ ((hT h a_4 = 10) ∧ (∀ x_5 : Int32, x_5 = hI h 31 a_4 → ((hT h a_2 = 9) ∧ (∀ r_6 : Option Nat, r_6 = hR h 27 a_2 → (∃ a_7 : Nat, r_6 = some a_7 ∧ (dp_Sink_finding cl a_7 [] h (gR (fun r_9 h_8 => dp_Spec_independent cl x0 [.ref a_1, .int x2, va_rf r_9] h_8 (gV (fun h_12 => ∃ fu : Nat, wb_X14_lookAt_53 cl lm Q E fu x0 x2 (some a_2) (some a_1) x_5 r_9 0 h_12)) E)) E))))))))))))) ∨ ((∀ a_1 : Nat, x1 = some a_1 → (hT h a_1 = 2 ∨ hT h a_1 = 3 ∨ hT h a_1 = 5 ∨ hT h a_1 = 300)) ∧ (∃ a_15 : Nat, x3 = some a_15 ∧ (dp_Finding_finds cl a_15 [.int x2, .int 5] h (gV (fun h_16 => Q none h_16)) E)))
theorem wx_X14_lookAt {l : Launch} (hst : l.stackTraces = false) {G : GG} {cl : CT} {lm : Nat × Nat} {Q : QT} {E : ET} {d2 : Nat} (hCl : CallsOK l G d2 cl ∧ hLm G lm ∧ 8 ≤ d2 ∧ LamsOK l G d2 cl) {x0 : Nat} {x1 : Option Nat} {x2 : Int32} {x3 : Option Nat} {h : HS} (hw : wb_X14_lookAt cl lm Q E x0 x1 x2 x3 h) : HMet l G yX14_lookAt (ws_ yX14_lookAt cX14_lookAt 8 ((Option.none : Option Jvm.ClassFile.FieldType))) (d2 + 1) [.ref x0, va_rf x1, .int x2, va_rf x3] h Q E := by
  refine gh_met (own := RX14) rfl (by decide +kernel) hst (by simp only [lg_sl_i, lg_sl_r, lg_sl_a, lg_sl_2, lg_sl_f, lg_sl_0]; decide) (fun X hXl hXn hret hnm hTb h0 eh C S0 => ?_)
  subst hXl
  have hlm := hCl.2.1
  have hd8 := hCl.2.2.1
  have hd2 : 1 ≤ d2 := Nat.le_trans (by decide) hd8
  have hLa := hCl.2.2.2
  have hd1 : 1 ≤ d2 + 1 := Nat.le_add_left _ _
  have hC9 := hCl
  replace hCl := hCl.1
  have hini : True := trivial
  unfold wb_X14_lookAt at hw
  refine GK.sub (lv' := [(0, .ref x0), (1, va_rf x1), (2, .int x2), (3, va_rf x3)]) [0, 1, 2, 3] (by simp only [lv_args_i, lv_args_r, lv_args_a, lv_args_l, lv_args_f, lv_args_0]; rfl) ?_
  refine gk_qload_n (pc := 0) C.1 1 dX14_lookAt_0 rfl rfl ?_
  rcases hw with ⟨a_1, rfl, hs, hw⟩ | ⟨hs, hw⟩
  · skip
    refine gi_X14_39_y (pc := 1) C hs dX14_lookAt_1 ?_
    refine gk_if_eq (pc := 4) (tgt := 16) C.1 dX14_lookAt_4 (by decide) (fun c9 => ?_) (fun c9 => ?_)
    · exact absurd c9 (by decide)
    refine gk_aload_n (pc := 7) C.1 1 dX14_lookAt_7 rfl rfl ?_
    obtain ⟨hs, hw⟩ := hw
    refine gh_ckc (pc := 8) (r := (some a_1)) C q1400 (ck_GathersAllFaults_Rec_ok hs) dX14_lookAt_8 ?_
    refine gk_astore (pc := 11) (lv' := [(4, Value.ref a_1), (0, Value.ref x0), (1, Value.ref a_1), (2, Value.int x2), (3, va_rf x3)]) C.1 dX14_lookAt_11 (by rw [hXn]; decide) (by first | rfl | simp [va_rf_S, va_rf_cat, cat_i, cat_a, cat_l, cat_f, fin4_0, fin4_1, fin4_2, fin4_3]) ?_
    refine gk_goto (pc := 13) (tgt := 23) C.1 dX14_lookAt_13 (by decide) ?_
    refine gk_qload_n (pc := 23) C.1 4 dX14_lookAt_23 rfl rfl ?_
    obtain ⟨a_2, rfl, hw⟩ := hw
    obtain ⟨ht, hw⟩ := hw
    refine gf_X14_47 (pc := 24) C ht dX14_lookAt_24 (fun r_3 er_3 => ?_)
    replace hw := hw r_3 er_3
    obtain ⟨a_4, rfl, hw⟩ := hw
    obtain ⟨ht, hw⟩ := hw
    refine gf_X14_51 (pc := 27) C ht dX14_lookAt_27 ?_
    obtain ⟨x_5, ex_5⟩ : ∃ z : Int32, z = hI h 31 a_4 := ⟨_, rfl⟩
    rw [← ex_5]
    replace hw := hw x_5 ex_5
    refine gk_istore (pc := 30) (lv' := [(5, Value.int x_5), (4, Value.ref a_1), (0, Value.ref x0), (1, Value.ref a_1), (2, Value.int x2), (3, Value.ref a_2)]) C.1 dX14_lookAt_30 (by rw [hXn]; decide) (by first | rfl | simp [va_rf_S, va_rf_cat, cat_i, cat_a, cat_l, cat_f, fin4_0, fin4_1, fin4_2, fin4_3]) ?_
    refine gk_aload_n (pc := 32) C.1 5 dX14_lookAt_32 rfl rfl ?_
    obtain ⟨ht, hw⟩ := hw
    refine gf_X14_47 (pc := 33) C ht dX14_lookAt_33 (fun r_6 er_6 => ?_)
    replace hw := hw r_6 er_6
    obtain ⟨a_7, rfl, hw⟩ := hw
    refine gc_X14_56 (pc := 36) (As := []) (rest := []) C hCl (Nat.le_refl _) hw rfl rfl (Nat.le_of_ble_eq_true rfl) dX14_lookAt_36 (fun v9 h_8 hp => ?_) (fun q_10 h_11 hw ht9 => ?_)
    rotate_left
    · exact gx_out C S0 (by rw [hTb]; decide) ht9 hw
    clear hw
    obtain ⟨r_9, rfl, hw⟩ := hp
    refine GK.at (p2 := 39) rfl ?_
    refine gk_qstore (pc := 39) (lv' := [(6, va_rf r_9), (5, Value.int x_5), (4, Value.ref a_1), (0, Value.ref x0), (1, Value.ref a_1), (2, Value.int x2), (3, Value.ref a_2)]) C.1 dX14_lookAt_39 (by rw [hXn]; decide) (by first | rfl | simp [va_rf_S, va_rf_cat, cat_i, cat_a, cat_l, cat_f, fin4_0, fin4_1, fin4_2, fin4_3]) ?_
    refine gk_aload_n (pc := 41) C.1 3 dX14_lookAt_41 rfl rfl ?_
    refine gk_aload (pc := 42) C.1 2 dX14_lookAt_42 rfl ?_
    refine gk_iload_n (pc := 44) C.1 5 dX14_lookAt_44 rfl rfl ?_
    refine gk_qload (pc := 45) C.1 0 dX14_lookAt_45 rfl ?_
    refine gc_X14_60 (pc := 47) (As := [.ref a_1, .int x2, va_rf r_9]) (rest := []) C hCl (Nat.le_refl _) hw rfl rfl (Nat.le_of_ble_eq_true rfl) dX14_lookAt_47 (fun v9 h_12 hp => ?_) (fun q_13 h_14 hw ht9 => ?_)
    rotate_left
    · exact gx_out C S0 (by rw [hTb]; decide) ht9 hw
    clear hw
    obtain ⟨rfl, hw⟩ := hp
    refine GK.at (p2 := 50) rfl ?_
    refine gk_iconst (pc := 50) (v := 0) C.1 dX14_lookAt_50 (by decide) ?_
    refine gk_istore (pc := 51) (lv' := [(7, Value.int 0), (6, va_rf r_9), (5, Value.int x_5), (4, Value.ref a_1), (0, Value.ref x0), (1, Value.ref a_1), (2, Value.int x2), (3, Value.ref a_2)]) C.1 dX14_lookAt_51 (by rw [hXn]; decide) (by first | rfl | simp [va_rf_S, va_rf_cat, cat_i, cat_a, cat_l, cat_f, fin4_0, fin4_1, fin4_2, fin4_3]) ?_
    refine GK.sub (lv' := [(0, .ref x0), (2, .int x2), (3, va_rf (some a_2)), (4, va_rf (some a_1)), (5, .int x_5), (6, va_rf r_9), (7, .int 0)]) [4, 6, 7, 3, 2, 1, 0] rfl ?_
    obtain ⟨n9, hw⟩ := hw
    exact wk_X14_lookAt_53 C hC9 S0 hret hXn hini hTb  n9 _ _ _ _ _ _ _ _ hw
  · refine gi_X14_39_n (pc := 1) (r := x1) C hs dX14_lookAt_1 ?_
    refine gk_if_eq (pc := 4) (tgt := 16) C.1 dX14_lookAt_4 (by decide) (fun c9 => ?_) (fun c9 => ?_)
    rotate_left
    · exact absurd rfl c9
    refine gk_qload_n (pc := 16) C.1 3 dX14_lookAt_16 rfl rfl ?_
    refine gk_iload_n (pc := 17) C.1 2 dX14_lookAt_17 rfl rfl ?_
    refine gk_iconst (pc := 18) (v := 5) C.1 dX14_lookAt_18 (by decide) ?_
    obtain ⟨a_15, rfl, hw⟩ := hw
    refine gc_X14_41 (pc := 19) (As := [.int x2, .int 5]) (rest := []) C hCl (Nat.le_refl _) hw rfl rfl (Nat.le_of_ble_eq_true rfl) dX14_lookAt_19 (fun v9 h_16 hp => ?_) (fun q_17 h_18 hw ht9 => ?_)
    rotate_left
    · exact gx_out C S0 (by rw [hTb]; decide) ht9 hw
    clear hw
    obtain ⟨rfl, hw⟩ := hp
    refine GK.at (p2 := 22) rfl ?_
    exact gh_vret (pc := 22) C S0 hret dX14_lookAt_22 hw
/-! 234: GathersAllFaults$Field.<init>(IZLGathersAllFaults$Look;)V -/
def wb_X15_init (cl : CT) (lm : Nat × Nat) (Q : QT) (E : ET) (x0 : Nat) (x1 : Int32) (x2 : Int32) (x3 : Option Nat) (h : HS) : Prop := (hT h x0 = 13) ∧ (∀ h_1 : HS, h_1 = sI h 41 x0 x1 → ((hT h_1 x0 = 13) ∧ (bz x2 ∧ (∀ h_2 : HS, h_2 = sI h_1 42 x0 x2 → ((hT h_2 x0 = 13) ∧ (∀ h_3 : HS, h_3 = sR h_2 43 x0 x3 → (Q none h_3)))))))
theorem wx_X15_init {l : Launch} (hst : l.stackTraces = false) {G : GG} {cl : CT} {lm : Nat × Nat} {Q : QT} {E : ET} {d2 : Nat} (hCl : CallsOK l G d2 cl ∧ hLm G lm ∧ 8 ≤ d2 ∧ LamsOK l G d2 cl) {x0 : Nat} {x1 : Int32} {x2 : Int32} {x3 : Option Nat} {h : HS} (hw : wb_X15_init cl lm Q E x0 x1 x2 x3 h) : HMet l G yX15_init (ws_ yX15_init cX15_init 4 ((Option.none : Option Jvm.ClassFile.FieldType))) (d2 + 1) [.ref x0, .int x1, .int x2, va_rf x3] h Q E := by
  refine gh_met (own := RX15) rfl (by decide +kernel) hst (by simp only [lg_sl_i, lg_sl_r, lg_sl_a, lg_sl_2, lg_sl_f, lg_sl_0]; decide) (fun X hXl hXn hret hnm hTb h0 eh C S0 => ?_)
  subst hXl
  have hlm := hCl.2.1
  have hd8 := hCl.2.2.1
  have hd2 : 1 ≤ d2 := Nat.le_trans (by decide) hd8
  have hLa := hCl.2.2.2
  have hd1 : 1 ≤ d2 + 1 := Nat.le_add_left _ _
  have hC9 := hCl
  replace hCl := hCl.1
  have hini : (ev_h X).name = "<init>" := hnm.1
  unfold wb_X15_init at hw
  refine GK.sub (lv' := [(0, .ref x0), (1, .int x1), (2, .int x2), (3, va_rf x3)]) [0, 1, 2, 3] (by simp only [lv_args_i, lv_args_r, lv_args_a, lv_args_l, lv_args_f, lv_args_0]; rfl) ?_
  refine gk_aload_n (pc := 0) C.1 0 dX15_init_0 rfl rfl ?_
  refine gh_obj (pc := 1) C hd1 q1345 (Nat.le_of_ble_eq_true rfl) dX15_init_1 ?_
  refine gk_aload_n (pc := 4) C.1 0 dX15_init_4 rfl rfl ?_
  refine gk_iload_n (pc := 5) C.1 1 dX15_init_5 rfl rfl ?_
  obtain ⟨ht, hw⟩ := hw
  refine gfp_X15_7 (pc := 6) C hini ht dX15_init_6 (fun h_1 eh_1 => ?_)
  replace hw := hw h_1 eh_1
  refine gk_aload_n (pc := 9) C.1 0 dX15_init_9 rfl rfl ?_
  refine gk_iload_n (pc := 10) C.1 2 dX15_init_10 rfl rfl ?_
  obtain ⟨ht, hw⟩ := hw
  obtain ⟨hz, hw⟩ := hw
  refine gfp_X15_13 (pc := 11) C hini hz ht dX15_init_11 (fun h_2 eh_2 => ?_)
  replace hw := hw h_2 eh_2
  refine gk_aload_n (pc := 14) C.1 0 dX15_init_14 rfl rfl ?_
  refine gk_qload_n (pc := 15) C.1 3 dX15_init_15 rfl rfl ?_
  obtain ⟨ht, hw⟩ := hw
  refine gfp_X15_17 (pc := 16) (r := x3) C hini ht dX15_init_16 (fun h_3 eh_3 => ?_)
  replace hw := hw h_3 eh_3
  exact gh_vret (pc := 19) C S0 hret dX15_init_19 hw
/-! 235: GathersAllFaults$Hanging.<init>(LGathersAllFaults$Both;III)V -/
def wb_X16_init (cl : CT) (lm : Nat × Nat) (Q : QT) (E : ET) (x0 : Nat) (x1 : Option Nat) (x2 : Int32) (x3 : Int32) (x4 : Int32) (h : HS) : Prop := (hT h x0 = 14) ∧ (∀ h_1 : HS, h_1 = sR h 44 x0 x1 → ((hT h_1 x0 = 14) ∧ (∀ h_2 : HS, h_2 = sI h_1 45 x0 x2 → ((hT h_2 x0 = 14) ∧ (∀ h_3 : HS, h_3 = sI h_2 46 x0 x3 → ((hT h_3 x0 = 14) ∧ (∀ h_4 : HS, h_4 = sI h_3 47 x0 x4 → (Q none h_4))))))))
theorem wx_X16_init {l : Launch} (hst : l.stackTraces = false) {G : GG} {cl : CT} {lm : Nat × Nat} {Q : QT} {E : ET} {d2 : Nat} (hCl : CallsOK l G d2 cl ∧ hLm G lm ∧ 8 ≤ d2 ∧ LamsOK l G d2 cl) {x0 : Nat} {x1 : Option Nat} {x2 : Int32} {x3 : Int32} {x4 : Int32} {h : HS} (hw : wb_X16_init cl lm Q E x0 x1 x2 x3 x4 h) : HMet l G yX16_init (ws_ yX16_init cX16_init 5 ((Option.none : Option Jvm.ClassFile.FieldType))) (d2 + 1) [.ref x0, va_rf x1, .int x2, .int x3, .int x4] h Q E := by
  refine gh_met (own := RX16) rfl (by decide +kernel) hst (by simp only [lg_sl_i, lg_sl_r, lg_sl_a, lg_sl_2, lg_sl_f, lg_sl_0]; decide) (fun X hXl hXn hret hnm hTb h0 eh C S0 => ?_)
  subst hXl
  have hlm := hCl.2.1
  have hd8 := hCl.2.2.1
  have hd2 : 1 ≤ d2 := Nat.le_trans (by decide) hd8
  have hLa := hCl.2.2.2
  have hd1 : 1 ≤ d2 + 1 := Nat.le_add_left _ _
  have hC9 := hCl
  replace hCl := hCl.1
  have hini : (ev_h X).name = "<init>" := hnm.1
  unfold wb_X16_init at hw
  refine GK.sub (lv' := [(0, .ref x0), (1, va_rf x1), (2, .int x2), (3, .int x3), (4, .int x4)]) [0, 1, 2, 3, 4] (by simp only [lv_args_i, lv_args_r, lv_args_a, lv_args_l, lv_args_f, lv_args_0]; rfl) ?_
  refine gk_aload_n (pc := 0) C.1 0 dX16_init_0 rfl rfl ?_
  refine gh_obj (pc := 1) C hd1 q1375 (Nat.le_of_ble_eq_true rfl) dX16_init_1 ?_
  refine gk_aload_n (pc := 4) C.1 0 dX16_init_4 rfl rfl ?_
  refine gk_qload_n (pc := 5) C.1 1 dX16_init_5 rfl rfl ?_
  obtain ⟨ht, hw⟩ := hw
  refine gfp_X16_7 (pc := 6) (r := x1) C hini ht dX16_init_6 (fun h_1 eh_1 => ?_)
  replace hw := hw h_1 eh_1
  refine gk_aload_n (pc := 9) C.1 0 dX16_init_9 rfl rfl ?_
  refine gk_iload_n (pc := 10) C.1 2 dX16_init_10 rfl rfl ?_
  obtain ⟨ht, hw⟩ := hw
  refine gfp_X16_13 (pc := 11) C hini ht dX16_init_11 (fun h_2 eh_2 => ?_)
  replace hw := hw h_2 eh_2
  refine gk_aload_n (pc := 14) C.1 0 dX16_init_14 rfl rfl ?_
  refine gk_iload_n (pc := 15) C.1 3 dX16_init_15 rfl rfl ?_
  obtain ⟨ht, hw⟩ := hw
  refine gfp_X16_17 (pc := 16) C hini ht dX16_init_16 (fun h_3 eh_3 => ?_)
  replace hw := hw h_3 eh_3
  refine gk_aload_n (pc := 19) C.1 0 dX16_init_19 rfl rfl ?_
  refine gk_iload (pc := 20) C.1 4 dX16_init_20 rfl ?_
  obtain ⟨ht, hw⟩ := hw
  refine gfp_X16_20 (pc := 22) C hini ht dX16_init_22 (fun h_4 eh_4 => ?_)
  replace hw := hw h_4 eh_4
  exact gh_vret (pc := 25) C S0 hret dX16_init_25 hw
/-! 236: GathersAllFaults$Finding.and(LGathersAllFaults$Finding;)LGathersAllFaults$Finding; -/
def wb_X17_and (cl : CT) (lm : Nat × Nat) (Q : QT) (E : ET) (x0 : Nat) (x1 : Option Nat) (h : HS) : Prop := (hT h x0 = 9) ∧ (∀ r_1 : Option Nat, r_1 = hR h 28 x0 → (∃ a_2 : Nat, x1 = some a_2 ∧ ((hT h a_2 = 9) ∧ (∀ r_3 : Option Nat, r_3 = hR h 28 a_2 → (∃ a_4 : Nat, r_1 = some a_4 ∧ (dp_Row_addAll cl a_4 [va_rf r_3] h (gV (fun h_5 => (hT h_5 x0 = 9) ∧ ((hT h_5 a_2 = 9) ∧ ((hT h_5 x0 = 9) ∧ (∀ h_8 : HS, h_8 = sI h_5 29 x0 ((hI h_5 29 x0) + (hI h_5 29 a_2)) → (Q (some (va_rf (some x0))) h_8)))))) E))))))
theorem wx_X17_and {l : Launch} (hst : l.stackTraces = false) {G : GG} {cl : CT} {lm : Nat × Nat} {Q : QT} {E : ET} {d2 : Nat} (hCl : CallsOK l G d2 cl ∧ hLm G lm ∧ 8 ≤ d2 ∧ LamsOK l G d2 cl) {x0 : Nat} {x1 : Option Nat} {h : HS} (hw : wb_X17_and cl lm Q E x0 x1 h) : HMet l G yX17_and (ws_ yX17_and cX17_and 2 ((Option.some (Jvm.ClassFile.FieldType.object "GathersAllFaults$Finding")))) (d2 + 1) [.ref x0, va_rf x1] h Q E := by
  refine gh_met (own := RX17) rfl (by decide +kernel) hst (by simp only [lg_sl_i, lg_sl_r, lg_sl_a, lg_sl_2, lg_sl_f, lg_sl_0]; decide) (fun X hXl hXn hret hnm hTb h0 eh C S0 => ?_)
  subst hXl
  have hlm := hCl.2.1
  have hd8 := hCl.2.2.1
  have hd2 : 1 ≤ d2 := Nat.le_trans (by decide) hd8
  have hLa := hCl.2.2.2
  have hd1 : 1 ≤ d2 + 1 := Nat.le_add_left _ _
  have hC9 := hCl
  replace hCl := hCl.1
  have hini : True := trivial
  unfold wb_X17_and at hw
  refine GK.sub (lv' := [(0, .ref x0), (1, va_rf x1)]) [0, 1] (by simp only [lv_args_i, lv_args_r, lv_args_a, lv_args_l, lv_args_f, lv_args_0]; rfl) ?_
  refine gk_aload_n (pc := 0) C.1 0 dX17_and_0 rfl rfl ?_
  obtain ⟨ht, hw⟩ := hw
  refine gf_X17_10 (pc := 1) C ht dX17_and_1 (fun r_1 er_1 => ?_)
  replace hw := hw r_1 er_1
  refine gk_qload_n (pc := 4) C.1 1 dX17_and_4 rfl rfl ?_
  obtain ⟨a_2, rfl, hw⟩ := hw
  obtain ⟨ht, hw⟩ := hw
  refine gf_X17_10 (pc := 5) C ht dX17_and_5 (fun r_3 er_3 => ?_)
  replace hw := hw r_3 er_3
  obtain ⟨a_4, rfl, hw⟩ := hw
  refine gc_X17_44 (pc := 8) (As := [va_rf r_3]) (rest := []) C hCl (Nat.le_refl _) hw rfl rfl (Nat.le_of_ble_eq_true rfl) dX17_and_8 (fun v9 h_5 hp => ?_) (fun q_6 h_7 hw ht9 => ?_)
  rotate_left
  · exact gx_out C S0 (by rw [hTb]; decide) ht9 hw
  clear hw
  obtain ⟨rfl, hw⟩ := hp
  refine GK.at (p2 := 11) rfl ?_
  refine gk_aload_n (pc := 11) C.1 0 dX17_and_11 rfl rfl ?_
  refine gk_dup (pc := 12) C.1 dX17_and_12 rfl ?_
  obtain ⟨ht, hw⟩ := hw
  refine gf_X17_23 (pc := 13) C ht dX17_and_13 ?_
  refine gk_aload_n (pc := 16) C.1 1 dX17_and_16 rfl rfl ?_
  obtain ⟨ht, hw⟩ := hw
  refine gf_X17_23 (pc := 17) C ht dX17_and_17 ?_
  refine gk_iadd (pc := 20) C.1 dX17_and_20 ?_
  obtain ⟨ht, hw⟩ := hw
  refine gfp_X17_23 (pc := 21) C ht dX17_and_21 (fun h_8 eh_8 => ?_)
  replace hw := hw h_8 eh_8
  refine gk_aload_n (pc := 24) C.1 0 dX17_and_24 rfl rfl ?_
  exact gh_aret (pc := 25) (r := (some x0)) C S0 hret (Or.inl ⟨_, rfl⟩) dX17_and_25 hw
/-! 237: GathersAllFaults$Finding.below(I)I -/
def wb_X17_below (cl : CT) (lm : Nat × Nat) (Q : QT) (E : ET) (x0 : Nat) (x1 : Int32) (h : HS) : Prop := (hT h x0 = 9) ∧ (∀ r_1 : Option Nat, r_1 = hR h 28 x0 → (∃ a_2 : Nat, r_1 = some a_2 ∧ (dp_Row_below cl a_2 [.int x1] h (gI (fun r_4 h_3 => Q (some (.int r_4)) h_3)) E)))
theorem wx_X17_below {l : Launch} (hst : l.stackTraces = false) {G : GG} {cl : CT} {lm : Nat × Nat} {Q : QT} {E : ET} {d2 : Nat} (hCl : CallsOK l G d2 cl ∧ hLm G lm ∧ 8 ≤ d2 ∧ LamsOK l G d2 cl) {x0 : Nat} {x1 : Int32} {h : HS} (hw : wb_X17_below cl lm Q E x0 x1 h) : HMet l G yX17_below (ws_ yX17_below cX17_below 2 ((Option.some Jvm.ClassFile.FieldType.int))) (d2 + 1) [.ref x0, .int x1] h Q E := by
  refine gh_met (own := RX17) rfl (by decide +kernel) hst (by simp only [lg_sl_i, lg_sl_r, lg_sl_a, lg_sl_2, lg_sl_f, lg_sl_0]; decide) (fun X hXl hXn hret hnm hTb h0 eh C S0 => ?_)
  subst hXl
  have hlm := hCl.2.1
  have hd8 := hCl.2.2.1
  have hd2 : 1 ≤ d2 := Nat.le_trans (by decide) hd8
  have hLa := hCl.2.2.2
  have hd1 : 1 ≤ d2 + 1 := Nat.le_add_left _ _
  have hC9 := hCl
  replace hCl := hCl.1
  have hini : True := trivial
  unfold wb_X17_below at hw
  refine GK.sub (lv' := [(0, .ref x0), (1, .int x1)]) [0, 1] (by simp only [lv_args_i, lv_args_r, lv_args_a, lv_args_l, lv_args_f, lv_args_0]; rfl) ?_
  refine gk_aload_n (pc := 0) C.1 0 dX17_below_0 rfl rfl ?_
  obtain ⟨ht, hw⟩ := hw
  refine gf_X17_10 (pc := 1) C ht dX17_below_1 (fun r_1 er_1 => ?_)
  replace hw := hw r_1 er_1
  refine gk_iload_n (pc := 4) C.1 1 dX17_below_4 rfl rfl ?_
  obtain ⟨a_2, rfl, hw⟩ := hw
  refine gc_X17_40 (pc := 5) (As := [.int x1]) (rest := []) C hCl (Nat.le_refl _) hw rfl rfl (Nat.le_of_ble_eq_true rfl) dX17_below_5 (fun v9 h_3 hp => ?_) (fun q_5 h_6 hw ht9 => ?_)
  rotate_left
  · exact gx_out C S0 (by rw [hTb]; decide) ht9 hw
  clear hw
  obtain ⟨r_4, rfl, hw⟩ := hp
  refine GK.at (p2 := 8) rfl ?_
  exact gh_iret (pc := 8) C S0 hret dX17_below_8 hw
/-! 238: GathersAllFaults$Finding.emptied()LGathersAllFaults$Finding; -/
def wb_X17_emptied (cl : CT) (lm : Nat × Nat) (Q : QT) (E : ET) (x0 : Nat) (h : HS) : Prop := (hT h x0 = 9) ∧ (∀ r_1 : Option Nat, r_1 = hR h 28 x0 → (∃ a_2 : Nat, r_1 = some a_2 ∧ (dp_Row_empties cl a_2 [] h (gV (fun h_3 => (hT h_3 x0 = 9) ∧ (∀ h_6 : HS, h_6 = sI h_3 29 x0 0 → (Q (some (va_rf (some x0))) h_6)))) E)))
theorem wx_X17_emptied {l : Launch} (hst : l.stackTraces = false) {G : GG} {cl : CT} {lm : Nat × Nat} {Q : QT} {E : ET} {d2 : Nat} (hCl : CallsOK l G d2 cl ∧ hLm G lm ∧ 8 ≤ d2 ∧ LamsOK l G d2 cl) {x0 : Nat} {h : HS} (hw : wb_X17_emptied cl lm Q E x0 h) : HMet l G yX17_emptied (ws_ yX17_emptied cX17_emptied 1 ((Option.some (Jvm.ClassFile.FieldType.object "GathersAllFaults$Finding")))) (d2 + 1) [.ref x0] h Q E := by
  refine gh_met (own := RX17) rfl (by decide +kernel) hst (by simp only [lg_sl_i, lg_sl_r, lg_sl_a, lg_sl_2, lg_sl_f, lg_sl_0]; decide) (fun X hXl hXn hret hnm hTb h0 eh C S0 => ?_)
  subst hXl
  have hlm := hCl.2.1
  have hd8 := hCl.2.2.1
  have hd2 : 1 ≤ d2 := Nat.le_trans (by decide) hd8
  have hLa := hCl.2.2.2
  have hd1 : 1 ≤ d2 + 1 := Nat.le_add_left _ _
  have hC9 := hCl
  replace hCl := hCl.1
  have hini : True := trivial
  unfold wb_X17_emptied at hw
  refine GK.sub (lv' := [(0, .ref x0)]) [0] (by simp only [lv_args_i, lv_args_r, lv_args_a, lv_args_l, lv_args_f, lv_args_0]; rfl) ?_
  refine gk_aload_n (pc := 0) C.1 0 dX17_emptied_0 rfl rfl ?_
  obtain ⟨ht, hw⟩ := hw
  refine gf_X17_10 (pc := 1) C ht dX17_emptied_1 (fun r_1 er_1 => ?_)
  replace hw := hw r_1 er_1
  obtain ⟨a_2, rfl, hw⟩ := hw
  refine gc_X17_20 (pc := 4) (As := []) (rest := []) C hCl (Nat.le_refl _) hw rfl rfl (Nat.le_of_ble_eq_true rfl) dX17_emptied_4 (fun v9 h_3 hp => ?_) (fun q_4 h_5 hw ht9 => ?_)
  rotate_left
  · exact gx_out C S0 (by rw [hTb]; decide) ht9 hw
  clear hw
  obtain ⟨rfl, hw⟩ := hp
  refine GK.at (p2 := 7) rfl ?_
  refine gk_aload_n (pc := 7) C.1 0 dX17_emptied_7 rfl rfl ?_
  refine gk_iconst (pc := 8) (v := 0) C.1 dX17_emptied_8 (by decide) ?_
  obtain ⟨ht, hw⟩ := hw
  refine gfp_X17_23 (pc := 9) C ht dX17_emptied_9 (fun h_6 eh_6 => ?_)
  replace hw := hw h_6 eh_6
  refine gk_aload_n (pc := 12) C.1 0 dX17_emptied_12 rfl rfl ?_
  exact gh_aret (pc := 13) (r := (some x0)) C S0 hret (Or.inl ⟨_, rfl⟩) dX17_emptied_13 hw
/-! 239: GathersAllFaults$Finding.finds(II)V -/
def wb_X17_finds (cl : CT) (lm : Nat × Nat) (Q : QT) (E : ET) (x0 : Nat) (x1 : Int32) (x2 : Int32) (h : HS) : Prop := (hT h x0 = 9) ∧ (∀ r_1 : Option Nat, r_1 = hR h 28 x0 → ((hT h x0 = 9) ∧ (∀ r_2 : Option Nat, r_2 = hR h 27 x0 → (∃ a_3 : Nat, r_2 = some a_3 ∧ (dp_Sink_found cl a_3 [.int x1, .int x2] h (gR (fun r_5 h_4 => ∃ a_8 : Nat, r_1 = some a_8 ∧ (dp_Row_add cl a_8 [va_rf r_5] h_4 (gV (fun h_9 => Q none h_9)) E))) E)))))
theorem wx_X17_finds {l : Launch} (hst : l.stackTraces = false) {G : GG} {cl : CT} {lm : Nat × Nat} {Q : QT} {E : ET} {d2 : Nat} (hCl : CallsOK l G d2 cl ∧ hLm G lm ∧ 8 ≤ d2 ∧ LamsOK l G d2 cl) {x0 : Nat} {x1 : Int32} {x2 : Int32} {h : HS} (hw : wb_X17_finds cl lm Q E x0 x1 x2 h) : HMet l G yX17_finds (ws_ yX17_finds cX17_finds 3 ((Option.none : Option Jvm.ClassFile.FieldType))) (d2 + 1) [.ref x0, .int x1, .int x2] h Q E := by
  refine gh_met (own := RX17) rfl (by decide +kernel) hst (by simp only [lg_sl_i, lg_sl_r, lg_sl_a, lg_sl_2, lg_sl_f, lg_sl_0]; decide) (fun X hXl hXn hret hnm hTb h0 eh C S0 => ?_)
  subst hXl
  have hlm := hCl.2.1
  have hd8 := hCl.2.2.1
  have hd2 : 1 ≤ d2 := Nat.le_trans (by decide) hd8
  have hLa := hCl.2.2.2
  have hd1 : 1 ≤ d2 + 1 := Nat.le_add_left _ _
  have hC9 := hCl
  replace hCl := hCl.1
  have hini : True := trivial
  unfold wb_X17_finds at hw
  refine GK.sub (lv' := [(0, .ref x0), (1, .int x1), (2, .int x2)]) [0, 1, 2] (by simp only [lv_args_i, lv_args_r, lv_args_a, lv_args_l, lv_args_f, lv_args_0]; rfl) ?_
  refine gk_aload_n (pc := 0) C.1 0 dX17_finds_0 rfl rfl ?_
  obtain ⟨ht, hw⟩ := hw
  refine gf_X17_10 (pc := 1) C ht dX17_finds_1 (fun r_1 er_1 => ?_)
  replace hw := hw r_1 er_1
  refine gk_aload_n (pc := 4) C.1 0 dX17_finds_4 rfl rfl ?_
  obtain ⟨ht, hw⟩ := hw
  refine gf_X17_16 (pc := 5) C ht dX17_finds_5 (fun r_2 er_2 => ?_)
  replace hw := hw r_2 er_2
  refine gk_iload_n (pc := 8) C.1 1 dX17_finds_8 rfl rfl ?_
  refine gk_iload_n (pc := 9) C.1 2 dX17_finds_9 rfl rfl ?_
  obtain ⟨a_3, rfl, hw⟩ := hw
  refine gc_X17_27 (pc := 10) (As := [.int x1, .int x2]) (rest := [va_rf r_1]) C hCl (Nat.le_refl _) hw rfl rfl (by simp [va_rf_S, va_rf_cat, cat_i, cat_a, cat_l, cat_f, fin4_0, fin4_1, fin4_2, fin4_3]) dX17_finds_10 (fun v9 h_4 hp => ?_) (fun q_6 h_7 hw ht9 => ?_)
  rotate_left
  · exact gx_out C S0 (by rw [hTb]; decide) ht9 hw
  clear hw
  obtain ⟨r_5, rfl, hw⟩ := hp
  refine GK.at (p2 := 13) rfl ?_
  obtain ⟨a_8, rfl, hw⟩ := hw
  refine gc_X17_33 (pc := 13) (As := [va_rf r_5]) (rest := []) C hCl (Nat.le_refl _) hw rfl rfl (Nat.le_of_ble_eq_true rfl) dX17_finds_13 (fun v9 h_9 hp => ?_) (fun q_10 h_11 hw ht9 => ?_)
  rotate_left
  · exact gx_out C S0 (by rw [hTb]; decide) ht9 hw
  clear hw
  obtain ⟨rfl, hw⟩ := hp
  refine GK.at (p2 := 16) rfl ?_
  exact gh_vret (pc := 16) C S0 hret dX17_finds_16 hw
