set_option maxRecDepth 100000
/-! 120: GathersAllFaults.pathIn(LGathersAllFaults$Value;I)I -/
def wb_X0_pathIn_92 (cl : CT) (lm : Nat × Nat) (Q : QT) (E : ET) (J50 : Nat → Int32 → Int32 → Option Nat → Option Nat → Int32 → Int32 → HS → Prop) (x0 : Nat) (x2 : Int32) (x4 : Option Nat) (x6 : Option Nat) (x7 : Int32) (x8 : Int32) (s0 : Int32) (h : HS) : Prop := ∀ x_1 : Int32, x_1 = x8 + 1 → (J50 x0 x2 s0 x4 x6 x7 x_1 h)
theorem wk_X0_pathIn_92 {X : Ev} {G : GG} {cl : CT} {lm : Nat × Nat} {Q : QT} {E : ET} {h0 : HS} {d2 : Nat} {J50 : Nat → Int32 → Int32 → Option Nat → Option Nat → Int32 → Int32 → HS → Prop} (C : HC X G RX0 cX0_pathIn (d2 + 1)) (hCl : CallsOK (ev_l X) G d2 cl ∧ hLm G lm ∧ 8 ≤ d2 ∧ LamsOK (ev_l X) G d2 cl) (S0 : HS0 X h0) (hret : (ev_h X).sig.returnType = (Option.some Jvm.ClassFile.FieldType.int)) (hXn : ev_n X = 10) (hini : True) (hTb : (ev_c X).exceptionTable.toList = []) (hJ50 : ∀ (x0 : Nat) (x2 : Int32) (x3 : Int32) (x4 : Option Nat) (x6 : Option Nat) (x7 : Int32) (x8 : Int32) (h : HS), J50 x0 x2 x3 x4 x6 x7 x8 h → GH X G h (hQ X G h0 Q E) 50 [(0, .ref x0), (2, .int x2), (3, .int x3), (4, va_rf x4), (6, va_rf x6), (7, .int x7), (8, .int x8)] []) : ∀ (x0 : Nat) (x2 : Int32) (x4 : Option Nat) (x6 : Option Nat) (x7 : Int32) (x8 : Int32) (s0 : Int32) (h : HS), wb_X0_pathIn_92 cl lm Q E J50 x0 x2 x4 x6 x7 x8 s0 h → GH X G h (hQ X G h0 Q E) 92 [(0, .ref x0), (2, .int x2), (4, va_rf x4), (6, va_rf x6), (7, .int x7), (8, .int x8)] [.int s0] := by
  have hlm := hCl.2.1
  have hd8 := hCl.2.2.1
  have hd2 : 1 ≤ d2 := Nat.le_trans (by decide) hd8
  have hLa := hCl.2.2.2
  have hd1 : 1 ≤ d2 + 1 := Nat.le_add_left _ _
  have hC9 := hCl
  replace hCl := hCl.1
  intro x0 x2 x4 x6 x7 x8 s0 h hw
  unfold wb_X0_pathIn_92 at hw
  refine gk_istore_n (pc := 92) (lv' := [(3, Value.int s0), (0, Value.ref x0), (2, Value.int x2), (4, va_rf x4), (6, va_rf x6), (7, Value.int x7), (8, Value.int x8)]) C.1 dX0_pathIn_92 rfl (by rw [hXn]; decide) (by first | rfl | simp [va_rf_S, va_rf_cat, cat_i, cat_a, cat_l, cat_f, fin4_0, fin4_1, fin4_2, fin4_3]) ?_
  obtain ⟨x_1, ex_1⟩ : ∃ z : Int32, z = x8 + 1 := ⟨_, rfl⟩
  replace hw := hw x_1 ex_1
  refine gk_iinc (pc := 93) (v := x_1) (lv' := [(8, Value.int x_1), (3, Value.int s0), (0, Value.ref x0), (2, Value.int x2), (4, va_rf x4), (6, va_rf x6), (7, Value.int x7)]) C.1 6 dX0_pathIn_93 rfl (by rw [ex_1]; rfl) (by rw [hXn]; decide) (by first | rfl | simp [va_rf_S, va_rf_cat, cat_i, cat_a, cat_l, cat_f, fin4_0, fin4_1, fin4_2, fin4_3]) ?_
  refine gk_goto (pc := 96) (tgt := 50) C.1 dX0_pathIn_96 (by decide) ?_
  refine GK.sub (lv' := [(0, .ref x0), (2, .int x2), (3, .int s0), (4, va_rf x4), (6, va_rf x6), (7, .int x7), (8, .int x_1)]) [2, 3, 1, 4, 5, 6, 0] rfl ?_
  exact hJ50 _ _ _ _ _ _ _ _ hw
def wb_X0_pathIn_50 (cl : CT) (lm : Nat × Nat) (Q : QT) (E : ET) : Nat → Nat → Int32 → Int32 → Option Nat → Option Nat → Int32 → Int32 → HS → Prop
  | 0 => fun _ _ _ _ _ _ _ _ => False
  | n + 1 => fun x0 x2 x3 x4 x6 x7 x8 h => ((x7 ≤ x8 → (Q (some (.int x3)) h)) ∧ (¬ x7 ≤ x8 → (∃ a_2 : Nat, x6 = some a_2 ∧ (hT h a_2 = 101 ∧ (vp_in x8 (hN h a_2) ∧ (∀ x_3 : Int32, x_3 = hA h a_2 x8.toNatClampNeg → (((¬ x3 = (-9) → (wb_X0_pathIn_92 cl lm Q E (fun yx0 yx2 yx3 yx4 yx6 yx7 yx8 yh => wb_X0_pathIn_50 cl lm Q E n yx0 yx2 yx3 yx4 yx6 yx7 yx8 yh) x0 x2 x4 (some a_2) x7 x8 x3 h)) ∧ (x3 = (-9) → (∃ a_5 : Nat, x4 = some a_5 ∧ (dp_Rec_step cl a_5 [.int x_3] h (gR (fun r_7 h_6 => dp_GathersAllFaults_pathIn cl x0 [va_rf r_7, .int ((10 * x2) + x_3)] h_6 (gI (fun r_11 h_10 => wb_X0_pathIn_92 cl lm Q E (fun yx0 yx2 yx3 yx4 yx6 yx7 yx8 yh => wb_X0_pathIn_50 cl lm Q E n yx0 yx2 yx3 yx4 yx6 yx7 yx8 yh) x0 x2 (some a_5) (some a_2) x7 x8 r_11 h_10)) E)) E)))))))))))
theorem wk_X0_pathIn_50 {X : Ev} {G : GG} {cl : CT} {lm : Nat × Nat} {Q : QT} {E : ET} {h0 : HS} {d2 : Nat} (C : HC X G RX0 cX0_pathIn (d2 + 1)) (hCl : CallsOK (ev_l X) G d2 cl ∧ hLm G lm ∧ 8 ≤ d2 ∧ LamsOK (ev_l X) G d2 cl) (S0 : HS0 X h0) (hret : (ev_h X).sig.returnType = (Option.some Jvm.ClassFile.FieldType.int)) (hXn : ev_n X = 10) (hini : True) (hTb : (ev_c X).exceptionTable.toList = []) : ∀ (n : Nat) (x0 : Nat) (x2 : Int32) (x3 : Int32) (x4 : Option Nat) (x6 : Option Nat) (x7 : Int32) (x8 : Int32) (h : HS), wb_X0_pathIn_50 cl lm Q E n x0 x2 x3 x4 x6 x7 x8 h → GH X G h (hQ X G h0 Q E) 50 [(0, .ref x0), (2, .int x2), (3, .int x3), (4, va_rf x4), (6, va_rf x6), (7, .int x7), (8, .int x8)] [] := by
  have hlm := hCl.2.1
  have hd8 := hCl.2.2.1
  have hd2 : 1 ≤ d2 := Nat.le_trans (by decide) hd8
  have hLa := hCl.2.2.2
  have hd1 : 1 ≤ d2 + 1 := Nat.le_add_left _ _
  have hC9 := hCl
  replace hCl := hCl.1
  intro n
  induction n with
  | zero => intro x0 x2 x3 x4 x6 x7 x8 h hw; exact hw.elim
  | succ n ih =>
  intro x0 x2 x3 x4 x6 x7 x8 h hw
  unfold wb_X0_pathIn_50 at hw
  refine gk_iload (pc := 50) C.1 6 dX0_pathIn_50 rfl ?_
  refine gk_iload (pc := 52) C.1 5 dX0_pathIn_52 rfl ?_
  refine gk_icmp_ge (pc := 54) (tgt := 99) C.1 dX0_pathIn_54 (by decide) (fun c_1 => ?_) (fun c_1 => ?_)
  · replace hw := hw.1 c_1
    refine gk_goto (pc := 99) (tgt := 168) C.1 dX0_pathIn_99 (by decide) ?_
    refine gk_iload_n (pc := 168) C.1 2 dX0_pathIn_168 rfl rfl ?_
    exact gh_iret (pc := 169) C S0 hret dX0_pathIn_169 hw
  · replace hw := hw.2 c_1
    refine gk_qload (pc := 57) C.1 4 dX0_pathIn_57 rfl ?_
    refine gk_iload (pc := 59) C.1 6 dX0_pathIn_59 rfl ?_
    obtain ⟨a_2, rfl, hw⟩ := hw
    obtain ⟨ht, hi, hw⟩ := hw
    refine gh_iald (pc := 61) C ht hi dX0_pathIn_61 ?_
    obtain ⟨x_3, ex_3⟩ : ∃ z : Int32, z = hA h a_2 x8.toNatClampNeg := ⟨_, rfl⟩
    rw [← ex_3]
    replace hw := hw x_3 ex_3
    refine gk_istore (pc := 62) (lv' := [(9, Value.int x_3), (0, Value.ref x0), (2, Value.int x2), (3, Value.int x3), (4, va_rf x4), (6, Value.ref a_2), (7, Value.int x7), (8, Value.int x8)]) C.1 dX0_pathIn_62 (by rw [hXn]; decide) (by first | rfl | simp [va_rf_S, va_rf_cat, cat_i, cat_a, cat_l, cat_f, fin4_0, fin4_1, fin4_2, fin4_3]) ?_
    refine gk_iload_n (pc := 64) C.1 3 dX0_pathIn_64 rfl rfl ?_
    refine gk_bipush (pc := 65) (v := (-9)) C.1 dX0_pathIn_65 (by decide) ?_
    refine gk_icmp_ne (pc := 67) (tgt := 91) C.1 dX0_pathIn_67 (by decide) (fun c_4 => ?_) (fun c_4 => ?_)
    · replace hw := hw.1 c_4
      refine gk_iload_n (pc := 91) C.1 3 dX0_pathIn_91 rfl rfl ?_
      refine GK.sub (lv' := [(0, .ref x0), (2, .int x2), (4, va_rf x4), (6, va_rf (some a_2)), (7, .int x7), (8, .int x8)]) [1, 2, 4, 5, 6, 7] rfl ?_
      exact wk_X0_pathIn_92 C hC9 S0 hret hXn hini hTb ih _ _ _ _ _ _ _ _ hw
    · replace hw := hw.2 c_4
      refine gk_aload_n (pc := 70) C.1 1 dX0_pathIn_70 rfl rfl ?_
      refine gk_qload (pc := 71) C.1 4 dX0_pathIn_71 rfl ?_
      refine gk_iload (pc := 73) C.1 0 dX0_pathIn_73 rfl ?_
      obtain ⟨a_5, rfl, hw⟩ := hw
      refine gc_X0_320 (pc := 75) (As := [.int x_3]) (rest := [.ref x0]) C hCl (Nat.le_refl _) hw rfl rfl (Nat.le_of_ble_eq_true rfl) dX0_pathIn_75 (fun v9 h_6 hp => ?_) (fun q_8 h_9 hw ht9 => ?_)
      rotate_left
      · exact gx_out C S0 (by rw [hTb]; decide) ht9 hw
      clear hw
      obtain ⟨r_7, rfl, hw⟩ := hp
      refine GK.at (p2 := 78) rfl ?_
      refine gk_bipush (pc := 78) (v := 10) C.1 dX0_pathIn_78 (by decide) ?_
      refine gk_iload_n (pc := 80) C.1 2 dX0_pathIn_80 rfl rfl ?_
      refine gk_imul (pc := 81) C.1 dX0_pathIn_81 ?_
      refine gk_iload (pc := 82) C.1 0 dX0_pathIn_82 rfl ?_
      refine gk_iadd (pc := 84) C.1 dX0_pathIn_84 ?_
      refine gc_X0_321 (pc := 85) (As := [va_rf r_7, .int ((10 * x2) + x_3)]) (rest := []) C hCl (Nat.le_refl _) hw rfl rfl (Nat.le_of_ble_eq_true rfl) dX0_pathIn_85 (fun v9 h_10 hp => ?_) (fun q_12 h_13 hw ht9 => ?_)
      rotate_left
      · exact gx_out C S0 (by rw [hTb]; decide) ht9 hw
      clear hw
      obtain ⟨r_11, rfl, hw⟩ := hp
      refine GK.at (p2 := 88) rfl ?_
      refine gk_goto (pc := 88) (tgt := 92) C.1 dX0_pathIn_88 (by decide) ?_
      refine GK.sub (lv' := [(0, .ref x0), (2, .int x2), (4, va_rf (some a_5)), (6, va_rf (some a_2)), (7, .int x7), (8, .int x8)]) [1, 2, 4, 5, 6, 7] rfl ?_
      exact wk_X0_pathIn_92 C hC9 S0 hret hXn hini hTb ih _ _ _ _ _ _ _ _ hw
def wb_X0_pathIn_161 (cl : CT) (lm : Nat × Nat) (Q : QT) (E : ET) (J118 : Nat → Int32 → Int32 → Option Nat → Int32 → HS → Prop) (x0 : Nat) (x2 : Int32) (x5 : Option Nat) (x6 : Int32) (s0 : Int32) (h : HS) : Prop := ∀ x_1 : Int32, x_1 = x6 + 1 → (J118 x0 x2 s0 x5 x_1 h)
theorem wk_X0_pathIn_161 {X : Ev} {G : GG} {cl : CT} {lm : Nat × Nat} {Q : QT} {E : ET} {h0 : HS} {d2 : Nat} {J118 : Nat → Int32 → Int32 → Option Nat → Int32 → HS → Prop} (C : HC X G RX0 cX0_pathIn (d2 + 1)) (hCl : CallsOK (ev_l X) G d2 cl ∧ hLm G lm ∧ 8 ≤ d2 ∧ LamsOK (ev_l X) G d2 cl) (S0 : HS0 X h0) (hret : (ev_h X).sig.returnType = (Option.some Jvm.ClassFile.FieldType.int)) (hXn : ev_n X = 10) (hini : True) (hTb : (ev_c X).exceptionTable.toList = []) (hJ118 : ∀ (x0 : Nat) (x2 : Int32) (x3 : Int32) (x5 : Option Nat) (x6 : Int32) (h : HS), J118 x0 x2 x3 x5 x6 h → GH X G h (hQ X G h0 Q E) 118 [(0, .ref x0), (2, .int x2), (3, .int x3), (5, va_rf x5), (6, .int x6)] []) : ∀ (x0 : Nat) (x2 : Int32) (x5 : Option Nat) (x6 : Int32) (s0 : Int32) (h : HS), wb_X0_pathIn_161 cl lm Q E J118 x0 x2 x5 x6 s0 h → GH X G h (hQ X G h0 Q E) 161 [(0, .ref x0), (2, .int x2), (5, va_rf x5), (6, .int x6)] [.int s0] := by
  have hlm := hCl.2.1
  have hd8 := hCl.2.2.1
  have hd2 : 1 ≤ d2 := Nat.le_trans (by decide) hd8
  have hLa := hCl.2.2.2
  have hd1 : 1 ≤ d2 + 1 := Nat.le_add_left _ _
  have hC9 := hCl
  replace hCl := hCl.1
  intro x0 x2 x5 x6 s0 h hw
  unfold wb_X0_pathIn_161 at hw
  refine gk_istore_n (pc := 161) (lv' := [(3, Value.int s0), (0, Value.ref x0), (2, Value.int x2), (5, va_rf x5), (6, Value.int x6)]) C.1 dX0_pathIn_161 rfl (by rw [hXn]; decide) (by first | rfl | simp [va_rf_S, va_rf_cat, cat_i, cat_a, cat_l, cat_f, fin4_0, fin4_1, fin4_2, fin4_3]) ?_
  obtain ⟨x_1, ex_1⟩ : ∃ z : Int32, z = x6 + 1 := ⟨_, rfl⟩
  replace hw := hw x_1 ex_1
  refine gk_iinc (pc := 162) (v := x_1) (lv' := [(6, Value.int x_1), (3, Value.int s0), (0, Value.ref x0), (2, Value.int x2), (5, va_rf x5)]) C.1 4 dX0_pathIn_162 rfl (by rw [ex_1]; rfl) (by rw [hXn]; decide) (by first | rfl | simp [va_rf_S, va_rf_cat, cat_i, cat_a, cat_l, cat_f, fin4_0, fin4_1, fin4_2, fin4_3]) ?_
  refine gk_goto (pc := 165) (tgt := 118) C.1 dX0_pathIn_165 (by decide) ?_
  refine GK.sub (lv' := [(0, .ref x0), (2, .int x2), (3, .int s0), (5, va_rf x5), (6, .int x_1)]) [2, 3, 1, 4, 0] rfl ?_
  exact hJ118 _ _ _ _ _ _ hw
def wb_X0_pathIn_118 (cl : CT) (lm : Nat × Nat) (Q : QT) (E : ET) : Nat → Nat → Int32 → Int32 → Option Nat → Int32 → HS → Prop
  | 0 => fun _ _ _ _ _ _ => False
  | n + 1 => fun x0 x2 x3 x5 x6 h => ∃ a_1 : Nat, x5 = some a_1 ∧ (dp_Lst_many cl a_1 [] h (gI (fun r_3 h_2 => ((r_3 ≤ x6 → (Q (some (.int x3)) h_2)) ∧ (¬ r_3 ≤ x6 → (((¬ x3 = (-9) → (wb_X0_pathIn_161 cl lm Q E (fun yx0 yx2 yx3 yx5 yx6 yh => wb_X0_pathIn_118 cl lm Q E n yx0 yx2 yx3 yx5 yx6 yh) x0 x2 (some a_1) x6 x3 h_2)) ∧ (x3 = (-9) → ((hT h_2 a_1 = 5) ∧ (∀ r_8 : Option Nat, r_8 = hR h_2 20 a_1 → (∃ a_9 : Nat, r_8 = some a_9 ∧ (hT h_2 a_9 = 114 ∧ (vp_in x6 (hN h_2 a_9) ∧ (∀ r_10 : Option Nat, r_10 = hB h_2 a_9 x6.toNatClampNeg → (dp_GathersAllFaults_pathIn cl x0 [va_rf r_10, .int ((((10 * x2) + 1) + 5) + x6)] h_2 (gI (fun r_12 h_11 => wb_X0_pathIn_161 cl lm Q E (fun yx0 yx2 yx3 yx5 yx6 yh => wb_X0_pathIn_118 cl lm Q E n yx0 yx2 yx3 yx5 yx6 yh) x0 x2 (some a_1) x6 r_12 h_11)) E)))))))))))))) E)
theorem wk_X0_pathIn_118 {X : Ev} {G : GG} {cl : CT} {lm : Nat × Nat} {Q : QT} {E : ET} {h0 : HS} {d2 : Nat} (C : HC X G RX0 cX0_pathIn (d2 + 1)) (hCl : CallsOK (ev_l X) G d2 cl ∧ hLm G lm ∧ 8 ≤ d2 ∧ LamsOK (ev_l X) G d2 cl) (S0 : HS0 X h0) (hret : (ev_h X).sig.returnType = (Option.some Jvm.ClassFile.FieldType.int)) (hXn : ev_n X = 10) (hini : True) (hTb : (ev_c X).exceptionTable.toList = []) : ∀ (n : Nat) (x0 : Nat) (x2 : Int32) (x3 : Int32) (x5 : Option Nat) (x6 : Int32) (h : HS), wb_X0_pathIn_118 cl lm Q E n x0 x2 x3 x5 x6 h → GH X G h (hQ X G h0 Q E) 118 [(0, .ref x0), (2, .int x2), (3, .int x3), (5, va_rf x5), (6, .int x6)] [] := by
  have hlm := hCl.2.1
  have hd8 := hCl.2.2.1
  have hd2 : 1 ≤ d2 := Nat.le_trans (by decide) hd8
  have hLa := hCl.2.2.2
  have hd1 : 1 ≤ d2 + 1 := Nat.le_add_left _ _
  have hC9 := hCl
  replace hCl := hCl.1
  intro n
  induction n with
  | zero => intro x0 x2 x3 x5 x6 h hw; exact hw.elim
  | succ n ih =>
  intro x0 x2 x3 x5 x6 h hw
  unfold wb_X0_pathIn_118 at hw
  refine gk_iload (pc := 118) C.1 4 dX0_pathIn_118 rfl ?_
  refine gk_qload (pc := 120) C.1 3 dX0_pathIn_120 rfl ?_
  obtain ⟨a_1, rfl, hw⟩ := hw
  refine gc_X0_325 (pc := 122) (As := []) (rest := [.int x6]) C hCl (Nat.le_refl _) hw rfl rfl (Nat.le_of_ble_eq_true rfl) dX0_pathIn_122 (fun v9 h_2 hp => ?_) (fun q_4 h_5 hw ht9 => ?_)
  rotate_left
  · exact gx_out C S0 (by rw [hTb]; decide) ht9 hw
  clear hw
  obtain ⟨r_3, rfl, hw⟩ := hp
  refine GK.at (p2 := 125) rfl ?_
  refine gk_icmp_ge (pc := 125) (tgt := 168) C.1 dX0_pathIn_125 (by decide) (fun c_6 => ?_) (fun c_6 => ?_)
  · replace hw := hw.1 c_6
    refine gk_iload_n (pc := 168) C.1 2 dX0_pathIn_168 rfl rfl ?_
    exact gh_iret (pc := 169) C S0 hret dX0_pathIn_169 hw
  · replace hw := hw.2 c_6
    refine gk_iload_n (pc := 128) C.1 2 dX0_pathIn_128 rfl rfl ?_
    refine gk_bipush (pc := 129) (v := (-9)) C.1 dX0_pathIn_129 (by decide) ?_
    refine gk_icmp_ne (pc := 131) (tgt := 160) C.1 dX0_pathIn_131 (by decide) (fun c_7 => ?_) (fun c_7 => ?_)
    · replace hw := hw.1 c_7
      refine gk_iload_n (pc := 160) C.1 2 dX0_pathIn_160 rfl rfl ?_
      refine GK.sub (lv' := [(0, .ref x0), (2, .int x2), (5, va_rf (some a_1)), (6, .int x6)]) [0, 1, 3, 4] rfl ?_
      exact wk_X0_pathIn_161 C hC9 S0 hret hXn hini hTb ih _ _ _ _ _ _ hw
    · replace hw := hw.2 c_7
      refine gk_aload_n (pc := 134) C.1 0 dX0_pathIn_134 rfl rfl ?_
      refine gk_aload (pc := 135) C.1 3 dX0_pathIn_135 rfl ?_
      obtain ⟨ht, hw⟩ := hw
      refine gf_X0_215 (pc := 137) C ht dX0_pathIn_137 (fun r_8 er_8 => ?_)
      replace hw := hw r_8 er_8
      refine gk_iload (pc := 140) C.1 4 dX0_pathIn_140 rfl ?_
      obtain ⟨a_9, rfl, hw⟩ := hw
      obtain ⟨ht, hi, hw⟩ := hw
      refine gh_aald (pc := 142) (t0 := 6) (E := "GathersAllFaults$Value") C ht (by decide) (by decide) rfl hi dX0_pathIn_142 ?_
      obtain ⟨r_10, er_10⟩ : ∃ z : Option Nat, z = hB h_2 a_9 x6.toNatClampNeg := ⟨_, rfl⟩
      rw [← er_10]
      replace hw := hw r_10 er_10
      refine gk_bipush (pc := 143) (v := 10) C.1 dX0_pathIn_143 (by decide) ?_
      refine gk_iload_n (pc := 145) C.1 1 dX0_pathIn_145 rfl rfl ?_
      refine gk_imul (pc := 146) C.1 dX0_pathIn_146 ?_
      refine gk_iconst (pc := 147) (v := 1) C.1 dX0_pathIn_147 (by decide) ?_
      refine gk_iadd (pc := 148) C.1 dX0_pathIn_148 ?_
      refine gk_iconst (pc := 149) (v := 5) C.1 dX0_pathIn_149 (by decide) ?_
      refine gk_iadd (pc := 150) C.1 dX0_pathIn_150 ?_
      refine gk_iload (pc := 151) C.1 4 dX0_pathIn_151 rfl ?_
      refine gk_iadd (pc := 153) C.1 dX0_pathIn_153 ?_
      refine gc_X0_321 (pc := 154) (As := [va_rf r_10, .int ((((10 * x2) + 1) + 5) + x6)]) (rest := []) C hCl (Nat.le_refl _) hw rfl rfl (Nat.le_of_ble_eq_true rfl) dX0_pathIn_154 (fun v9 h_11 hp => ?_) (fun q_13 h_14 hw ht9 => ?_)
      rotate_left
      · exact gx_out C S0 (by rw [hTb]; decide) ht9 hw
      clear hw
      obtain ⟨r_12, rfl, hw⟩ := hp
      refine GK.at (p2 := 157) rfl ?_
      refine gk_goto (pc := 157) (tgt := 161) C.1 dX0_pathIn_157 (by decide) ?_
      refine GK.sub (lv' := [(0, .ref x0), (2, .int x2), (5, va_rf (some a_1)), (6, .int x6)]) [0, 1, 3, 4] rfl ?_
      exact wk_X0_pathIn_161 C hC9 S0 hret hXn hini hTb ih _ _ _ _ _ _ hw
def wb_X0_pathIn (cl : CT) (lm : Nat × Nat) (Q : QT) (E : ET) (x0 : Nat) (x1 : Option Nat) (x2 : Int32) (h : HS) : Prop := (hT h x0 = 1) ∧ (((¬ (hI h 13 x0) = 0 → ((hT h x0 = 1) ∧ ((hT h x0 = 1) ∧ (∀ h_2 : HS, h_2 = sI h 13 x0 ((hI h 13 x0) - 1) → ((∃ a_3 : Nat, x1 = some a_3 ∧ ((hT h_2 a_3 = 4) ∧ (ck_GathersAllFaults_Rec h_2 (some a_3) ∧ ((hT h_2 a_3 = 4) ∧ (∀ r_4 : Option Nat, r_4 = hR h_2 19 a_3 → (∃ a_5 : Nat, r_4 = some a_5 ∧ (hT h_2 a_5 = 101 ∧ (∀ x_6 : Int32, x_6 = nI (hN h_2 a_5) → (∃ fu : Nat, wb_X0_pathIn_50 cl lm Q E fu x0 x2 (-9) (some a_3) (some a_5) x_6 0 h_2))))))))) ∨ ((∀ a_3 : Nat, x1 = some a_3 → (hT h_2 a_3 = 2 ∨ hT h_2 a_3 = 3 ∨ hT h_2 a_3 = 5 ∨ hT h_2 a_3 = 300)) ∧ ((∃ a_7 : Nat, x1 = some a_7 ∧ ((hT h_2 a_7 = 5) ∧ (ck_GathersAllFaults_Lst h_2 (some a_7) ∧ (∃ fu : Nat, wb_X0_pathIn_118 cl lm Q E fu x0 x2 (-9) (some a_7) 0 h_2)))) ∨ ((∀ a_7 : Nat, x1 = some a_7 → (hT h_2 a_7 = 2 ∨ hT h_2 a_7 = 3 ∨ hT h_2 a_7 = 4 ∨ hT h_2 a_7 = 300)) ∧ (Q (some (.int (-9))) h_2))))))))) ∧ ((hI h 13 x0) = 0 → (Q (some (.int x2)) h))))
theorem wx_X0_pathIn {l : Launch} (hst : l.stackTraces = false) {G : GG} {cl : CT} {lm : Nat × Nat} {Q : QT} {E : ET} {d2 : Nat} (hCl : CallsOK l G d2 cl ∧ hLm G lm ∧ 8 ≤ d2 ∧ LamsOK l G d2 cl) {x0 : Nat} {x1 : Option Nat} {x2 : Int32} {h : HS} (hw : wb_X0_pathIn cl lm Q E x0 x1 x2 h) : HMet l G yX0_pathIn (ws_ yX0_pathIn cX0_pathIn 10 ((Option.some Jvm.ClassFile.FieldType.int))) (d2 + 1) [.ref x0, va_rf x1, .int x2] h Q E := by
  refine gh_met (own := RX0) rfl (by decide +kernel) hst (by simp only [lg_sl_i, lg_sl_r, lg_sl_a, lg_sl_2, lg_sl_f, lg_sl_0]; decide) (fun X hXl hXn hret hnm hTb h0 eh C S0 => ?_)
  subst hXl
  have hlm := hCl.2.1
  have hd8 := hCl.2.2.1
  have hd2 : 1 ≤ d2 := Nat.le_trans (by decide) hd8
  have hLa := hCl.2.2.2
  have hd1 : 1 ≤ d2 + 1 := Nat.le_add_left _ _
  have hC9 := hCl
  replace hCl := hCl.1
  have hini : True := trivial
  unfold wb_X0_pathIn at hw
  refine GK.sub (lv' := [(0, .ref x0), (1, va_rf x1), (2, .int x2)]) [0, 1, 2] (by simp only [lv_args_i, lv_args_r, lv_args_a, lv_args_l, lv_args_f, lv_args_0]; rfl) ?_
  refine gk_aload_n (pc := 0) C.1 0 dX0_pathIn_0 rfl rfl ?_
  obtain ⟨ht, hw⟩ := hw
  refine gf_X0_314 (pc := 1) C ht dX0_pathIn_1 ?_
  refine gk_if_ne (pc := 4) (tgt := 9) C.1 dX0_pathIn_4 (by decide) (fun c_1 => ?_) (fun c_1 => ?_)
  · replace hw := hw.1 c_1
    refine gk_aload_n (pc := 9) C.1 0 dX0_pathIn_9 rfl rfl ?_
    refine gk_dup (pc := 10) C.1 dX0_pathIn_10 rfl ?_
    obtain ⟨ht, hw⟩ := hw
    refine gf_X0_314 (pc := 11) C ht dX0_pathIn_11 ?_
    refine gk_iconst (pc := 14) (v := 1) C.1 dX0_pathIn_14 (by decide) ?_
    refine gk_isub (pc := 15) C.1 dX0_pathIn_15 ?_
    obtain ⟨ht, hw⟩ := hw
    refine gfp_X0_314 (pc := 16) C ht dX0_pathIn_16 (fun h_2 eh_2 => ?_)
    replace hw := hw h_2 eh_2
    refine gk_bipush (pc := 19) (v := (-9)) C.1 dX0_pathIn_19 (by decide) ?_
    refine gk_istore_n (pc := 21) (lv' := [(3, Value.int (-9)), (0, Value.ref x0), (1, va_rf x1), (2, Value.int x2)]) C.1 dX0_pathIn_21 rfl (by rw [hXn]; decide) (by first | rfl | simp [va_rf_S, va_rf_cat, cat_i, cat_a, cat_l, cat_f, fin4_0, fin4_1, fin4_2, fin4_3]) ?_
    refine gk_qload_n (pc := 22) C.1 2 dX0_pathIn_22 rfl rfl ?_
    rcases hw with ⟨a_3, rfl, hs, hw⟩ | ⟨hs, hw⟩
    · skip
      refine gi_X0_196_y (pc := 23) C hs dX0_pathIn_23 ?_
      refine gk_if_eq (pc := 26) (tgt := 102) C.1 dX0_pathIn_26 (by decide) (fun c9 => ?_) (fun c9 => ?_)
      · exact absurd c9 (by decide)
      refine gk_aload_n (pc := 29) C.1 2 dX0_pathIn_29 rfl rfl ?_
      obtain ⟨hs, hw⟩ := hw
      refine gh_ckc (pc := 30) (r := (some a_3)) C q1873 (ck_GathersAllFaults_Rec_ok hs) dX0_pathIn_30 ?_
      refine gk_astore (pc := 33) (lv' := [(4, Value.ref a_3), (3, Value.int (-9)), (0, Value.ref x0), (1, Value.ref a_3), (2, Value.int x2)]) C.1 dX0_pathIn_33 (by rw [hXn]; decide) (by first | rfl | simp [va_rf_S, va_rf_cat, cat_i, cat_a, cat_l, cat_f, fin4_0, fin4_1, fin4_2, fin4_3]) ?_
      refine gk_aload (pc := 35) C.1 0 dX0_pathIn_35 rfl ?_
      obtain ⟨ht, hw⟩ := hw
      refine gf_X0_317 (pc := 37) C ht dX0_pathIn_37 (fun r_4 er_4 => ?_)
      replace hw := hw r_4 er_4
      refine gk_qstore (pc := 40) (lv' := [(6, va_rf r_4), (4, Value.ref a_3), (3, Value.int (-9)), (0, Value.ref x0), (1, Value.ref a_3), (2, Value.int x2)]) C.1 dX0_pathIn_40 (by rw [hXn]; decide) (by first | rfl | simp [va_rf_S, va_rf_cat, cat_i, cat_a, cat_l, cat_f, fin4_0, fin4_1, fin4_2, fin4_3]) ?_
      refine gk_qload (pc := 42) C.1 0 dX0_pathIn_42 rfl ?_
      obtain ⟨a_5, rfl, hw⟩ := hw
      obtain ⟨ht, hw⟩ := hw
      refine gh_len (pc := 44) (t0 := 0) (ty := tyA 101) C ht (by decide) rfl dX0_pathIn_44 ?_
      obtain ⟨x_6, ex_6⟩ : ∃ z : Int32, z = nI (hN h_2 a_5) := ⟨_, rfl⟩
      rw [← ex_6]
      replace hw := hw x_6 ex_6
      refine gk_istore (pc := 45) (lv' := [(7, Value.int x_6), (6, Value.ref a_5), (4, Value.ref a_3), (3, Value.int (-9)), (0, Value.ref x0), (1, Value.ref a_3), (2, Value.int x2)]) C.1 dX0_pathIn_45 (by rw [hXn]; decide) (by first | rfl | simp [va_rf_S, va_rf_cat, cat_i, cat_a, cat_l, cat_f, fin4_0, fin4_1, fin4_2, fin4_3]) ?_
      refine gk_iconst (pc := 47) (v := 0) C.1 dX0_pathIn_47 (by decide) ?_
      refine gk_istore (pc := 48) (lv' := [(8, Value.int 0), (7, Value.int x_6), (6, Value.ref a_5), (4, Value.ref a_3), (3, Value.int (-9)), (0, Value.ref x0), (1, Value.ref a_3), (2, Value.int x2)]) C.1 dX0_pathIn_48 (by rw [hXn]; decide) (by first | rfl | simp [va_rf_S, va_rf_cat, cat_i, cat_a, cat_l, cat_f, fin4_0, fin4_1, fin4_2, fin4_3]) ?_
      refine GK.sub (lv' := [(0, .ref x0), (2, .int x2), (3, .int (-9)), (4, va_rf (some a_3)), (6, va_rf (some a_5)), (7, .int x_6), (8, .int 0)]) [5, 7, 4, 3, 2, 1, 0] rfl ?_
      obtain ⟨n9, hw⟩ := hw
      exact wk_X0_pathIn_50 C hC9 S0 hret hXn hini hTb  n9 _ _ _ _ _ _ _ _ hw
    · refine gi_X0_196_n (pc := 23) (r := x1) C hs dX0_pathIn_23 ?_
      refine gk_if_eq (pc := 26) (tgt := 102) C.1 dX0_pathIn_26 (by decide) (fun c9 => ?_) (fun c9 => ?_)
      rotate_left
      · exact absurd rfl c9
      refine gk_qload_n (pc := 102) C.1 2 dX0_pathIn_102 rfl rfl ?_
      rcases hw with ⟨a_7, rfl, hs, hw⟩ | ⟨hs, hw⟩
      · skip
        refine gi_X0_213_y (pc := 103) C hs dX0_pathIn_103 ?_
        refine gk_if_eq (pc := 106) (tgt := 168) C.1 dX0_pathIn_106 (by decide) (fun c9 => ?_) (fun c9 => ?_)
        · exact absurd c9 (by decide)
        refine gk_aload_n (pc := 109) C.1 2 dX0_pathIn_109 rfl rfl ?_
        obtain ⟨hs, hw⟩ := hw
        refine gh_ckc (pc := 110) (r := (some a_7)) C q1546 (ck_GathersAllFaults_Lst_ok hs) dX0_pathIn_110 ?_
        refine gk_astore (pc := 113) (lv' := [(5, Value.ref a_7), (3, Value.int (-9)), (0, Value.ref x0), (1, Value.ref a_7), (2, Value.int x2)]) C.1 dX0_pathIn_113 (by rw [hXn]; decide) (by first | rfl | simp [va_rf_S, va_rf_cat, cat_i, cat_a, cat_l, cat_f, fin4_0, fin4_1, fin4_2, fin4_3]) ?_
        refine gk_iconst (pc := 115) (v := 0) C.1 dX0_pathIn_115 (by decide) ?_
        refine gk_istore (pc := 116) (lv' := [(6, Value.int 0), (5, Value.ref a_7), (3, Value.int (-9)), (0, Value.ref x0), (1, Value.ref a_7), (2, Value.int x2)]) C.1 dX0_pathIn_116 (by rw [hXn]; decide) (by first | rfl | simp [va_rf_S, va_rf_cat, cat_i, cat_a, cat_l, cat_f, fin4_0, fin4_1, fin4_2, fin4_3]) ?_
        refine GK.sub (lv' := [(0, .ref x0), (2, .int x2), (3, .int (-9)), (5, va_rf (some a_7)), (6, .int 0)]) [3, 5, 2, 1, 0] rfl ?_
        obtain ⟨n9, hw⟩ := hw
        exact wk_X0_pathIn_118 C hC9 S0 hret hXn hini hTb  n9 _ _ _ _ _ _ hw
      · refine gi_X0_213_n (pc := 103) (r := x1) C hs dX0_pathIn_103 ?_
        refine gk_if_eq (pc := 106) (tgt := 168) C.1 dX0_pathIn_106 (by decide) (fun c9 => ?_) (fun c9 => ?_)
        rotate_left
        · exact absurd rfl c9
        refine gk_iload_n (pc := 168) C.1 0 dX0_pathIn_168 rfl rfl ?_
        exact gh_iret (pc := 169) C S0 hret dX0_pathIn_169 hw
  · replace hw := hw.2 c_1
    refine gk_iload_n (pc := 7) C.1 2 dX0_pathIn_7 rfl rfl ?_
    exact gh_iret (pc := 8) C S0 hret dX0_pathIn_8 hw
/-! 121: GathersAllFaults.put(ILGathersAllFaults$Value;)I -/
def wb_X0_put (cl : CT) (lm : Nat × Nat) (Q : QT) (E : ET) (x0 : Nat) (x1 : Int32) (x2 : Option Nat) (h : HS) : Prop := dp_GathersAllFaults_at cl x0 [.int x1] h (gR (fun r_2 h_1 => ∃ a_5 : Nat, r_2 = some a_5 ∧ (dp_Value_size cl a_5 [] h_1 (gI (fun r_7 h_6 => (hT h_6 x0 = 1) ∧ (∀ r_10 : Option Nat, r_10 = hR h_6 0 x0 → (cl 52 [va_rf r_10, .int x1, va_rf x2] h_6 (gR (fun r_12 h_11 => (hT h_11 x0 = 1) ∧ (∀ h_15 : HS, h_15 = sR h_11 0 x0 r_12 → (Q (some (.int r_7)) h_15)))) E)))) E))) E
theorem wx_X0_put {l : Launch} (hst : l.stackTraces = false) {G : GG} {cl : CT} {lm : Nat × Nat} {Q : QT} {E : ET} {d2 : Nat} (hCl : CallsOK l G d2 cl ∧ hLm G lm ∧ 8 ≤ d2 ∧ LamsOK l G d2 cl) {x0 : Nat} {x1 : Int32} {x2 : Option Nat} {h : HS} (hw : wb_X0_put cl lm Q E x0 x1 x2 h) : HMet l G yX0_put (ws_ yX0_put cX0_put 4 ((Option.some Jvm.ClassFile.FieldType.int))) (d2 + 1) [.ref x0, .int x1, va_rf x2] h Q E := by
  refine gh_met (own := RX0) rfl (by decide +kernel) hst (by simp only [lg_sl_i, lg_sl_r, lg_sl_a, lg_sl_2, lg_sl_f, lg_sl_0]; decide) (fun X hXl hXn hret hnm hTb h0 eh C S0 => ?_)
  subst hXl
  have hlm := hCl.2.1
  have hd8 := hCl.2.2.1
  have hd2 : 1 ≤ d2 := Nat.le_trans (by decide) hd8
  have hLa := hCl.2.2.2
  have hd1 : 1 ≤ d2 + 1 := Nat.le_add_left _ _
  have hC9 := hCl
  replace hCl := hCl.1
  have hini : True := trivial
  unfold wb_X0_put at hw
  refine GK.sub (lv' := [(0, .ref x0), (1, .int x1), (2, va_rf x2)]) [0, 1, 2] (by simp only [lv_args_i, lv_args_r, lv_args_a, lv_args_l, lv_args_f, lv_args_0]; rfl) ?_
  refine gk_aload_n (pc := 0) C.1 0 dX0_put_0 rfl rfl ?_
  refine gk_iload_n (pc := 1) C.1 1 dX0_put_1 rfl rfl ?_
  refine gc_X0_173 (pc := 2) (As := [.int x1]) (rest := []) C hCl (Nat.le_refl _) hw rfl rfl (Nat.le_of_ble_eq_true rfl) dX0_put_2 (fun v9 h_1 hp => ?_) (fun q_3 h_4 hw ht9 => ?_)
  rotate_left
  · exact gx_out C S0 (by rw [hTb]; decide) ht9 hw
  clear hw
  obtain ⟨r_2, rfl, hw⟩ := hp
  refine GK.at (p2 := 5) rfl ?_
  obtain ⟨a_5, rfl, hw⟩ := hw
  refine gc_X0_54 (pc := 5) (As := []) (rest := []) C hCl (Nat.le_refl _) hw rfl rfl (Nat.le_of_ble_eq_true rfl) dX0_put_5 (fun v9 h_6 hp => ?_) (fun q_8 h_9 hw ht9 => ?_)
  rotate_left
  · exact gx_out C S0 (by rw [hTb]; decide) ht9 hw
  clear hw
  obtain ⟨r_7, rfl, hw⟩ := hp
  refine GK.at (p2 := 8) rfl ?_
  refine gk_istore_n (pc := 8) (lv' := [(3, Value.int r_7), (0, Value.ref x0), (1, Value.int x1), (2, va_rf x2)]) C.1 dX0_put_8 rfl (by rw [hXn]; decide) (by first | rfl | simp [va_rf_S, va_rf_cat, cat_i, cat_a, cat_l, cat_f, fin4_0, fin4_1, fin4_2, fin4_3]) ?_
  refine gk_aload_n (pc := 9) C.1 1 dX0_put_9 rfl rfl ?_
  refine gk_aload_n (pc := 10) C.1 1 dX0_put_10 rfl rfl ?_
  obtain ⟨ht, hw⟩ := hw
  refine gf_X0_66 (pc := 11) C ht dX0_put_11 (fun r_10 er_10 => ?_)
  replace hw := hw r_10 er_10
  refine gk_iload_n (pc := 14) C.1 2 dX0_put_14 rfl rfl ?_
  refine gk_qload_n (pc := 15) C.1 3 dX0_put_15 rfl rfl ?_
  refine gc_X0_165 (pc := 16) (As := [va_rf r_10, .int x1, va_rf x2]) (rest := [.ref x0]) C hCl (Nat.le_refl _) hw rfl rfl (Nat.le_of_ble_eq_true rfl) dX0_put_16 (fun v9 h_11 hp => ?_) (fun q_13 h_14 hw ht9 => ?_)
  rotate_left
  · exact gx_out C S0 (by rw [hTb]; decide) ht9 hw
  clear hw
  obtain ⟨r_12, rfl, hw⟩ := hp
  refine GK.at (p2 := 19) rfl ?_
  obtain ⟨ht, hw⟩ := hw
  refine gfp_X0_66 (pc := 19) (r := r_12) C ht dX0_put_19 (fun h_15 eh_15 => ?_)
  replace hw := hw h_15 eh_15
  refine gk_iload_n (pc := 22) C.1 0 dX0_put_22 rfl rfl ?_
  exact gh_iret (pc := 23) C S0 hret dX0_put_23 hw
/-! 122: GathersAllFaults.putIt(II)I -/
def wb_X0_putIt (cl : CT) (lm : Nat × Nat) (Q : QT) (E : ET) (x0 : Nat) (x1 : Int32) (x2 : Int32) (h : HS) : Prop := dp_GathersAllFaults_at cl x0 [.int x1] h (gR (fun r_2 h_1 => cl 141 [.long ((x2 : Int32).toInt64), .long 0, .long 99] h_1 (gV (fun h_5 => hZ h_5 + 1 ≤ lm.1 ∧ (hL h_5 + 1 ≤ lm.2 ∧ (∀ (a_9 : Nat) (h_8 : HS), a_9 = hZ h_5 → h_8 = hNew h_5 2 0 1 → (cl 148 (.ref a_9 :: [.int x2]) h_8 (gV (fun h_10 => dp_GathersAllFaults_put cl x0 [.int x1, .ref a_9] h_10 (gI (fun r_14 h_13 => Q (some (.int r_14)) h_13)) E)) E))))) E)) E
theorem wx_X0_putIt {l : Launch} (hst : l.stackTraces = false) {G : GG} {cl : CT} {lm : Nat × Nat} {Q : QT} {E : ET} {d2 : Nat} (hCl : CallsOK l G d2 cl ∧ hLm G lm ∧ 8 ≤ d2 ∧ LamsOK l G d2 cl) {x0 : Nat} {x1 : Int32} {x2 : Int32} {h : HS} (hw : wb_X0_putIt cl lm Q E x0 x1 x2 h) : HMet l G yX0_putIt (ws_ yX0_putIt cX0_putIt 3 ((Option.some Jvm.ClassFile.FieldType.int))) (d2 + 1) [.ref x0, .int x1, .int x2] h Q E := by
  refine gh_met (own := RX0) rfl (by decide +kernel) hst (by simp only [lg_sl_i, lg_sl_r, lg_sl_a, lg_sl_2, lg_sl_f, lg_sl_0]; decide) (fun X hXl hXn hret hnm hTb h0 eh C S0 => ?_)
  subst hXl
  have hlm := hCl.2.1
  have hd8 := hCl.2.2.1
  have hd2 : 1 ≤ d2 := Nat.le_trans (by decide) hd8
  have hLa := hCl.2.2.2
  have hd1 : 1 ≤ d2 + 1 := Nat.le_add_left _ _
  have hC9 := hCl
  replace hCl := hCl.1
  have hini : True := trivial
  unfold wb_X0_putIt at hw
  refine GK.sub (lv' := [(0, .ref x0), (1, .int x1), (2, .int x2)]) [0, 1, 2] (by simp only [lv_args_i, lv_args_r, lv_args_a, lv_args_l, lv_args_f, lv_args_0]; rfl) ?_
  refine gk_aload_n (pc := 0) C.1 0 dX0_putIt_0 rfl rfl ?_
  refine gk_iload_n (pc := 1) C.1 1 dX0_putIt_1 rfl rfl ?_
  refine gc_X0_173 (pc := 2) (As := [.int x1]) (rest := []) C hCl (Nat.le_refl _) hw rfl rfl (Nat.le_of_ble_eq_true rfl) dX0_putIt_2 (fun v9 h_1 hp => ?_) (fun q_3 h_4 hw ht9 => ?_)
  rotate_left
  · exact gx_out C S0 (by rw [hTb]; decide) ht9 hw
  clear hw
  obtain ⟨r_2, rfl, hw⟩ := hp
  refine GK.at (p2 := 5) rfl ?_
  refine gk_pop (pc := 5) C.1 dX0_putIt_5 (va_rf_cat _) ?_
  refine gk_iload_n (pc := 6) C.1 2 dX0_putIt_6 rfl rfl ?_
  refine gk_i2l (pc := 7) C.1 dX0_putIt_7 ?_
  refine gk_lconst (pc := 8) (v := 0) C.1 dX0_putIt_8 (by decide) ?_
  refine gk_ldc2 (pc := 9) (v := 99) C.1 q1673 dX0_putIt_9 ?_
  refine gc_X0_184 (pc := 12) (As := [.long ((x2 : Int32).toInt64), .long 0, .long 99]) (rest := []) C hCl (Nat.le_refl _) hw rfl rfl (Nat.le_of_ble_eq_true rfl) dX0_putIt_12 (fun v9 h_5 hp => ?_) (fun q_6 h_7 hw ht9 => ?_)
  rotate_left
  · exact gx_out C S0 (by rw [hTb]; decide) ht9 hw
  clear hw
  obtain ⟨rfl, hw⟩ := hp
  refine GK.at (p2 := 15) rfl ?_
  refine gk_aload_n (pc := 15) C.1 0 dX0_putIt_15 rfl rfl ?_
  refine gk_iload_n (pc := 16) C.1 1 dX0_putIt_16 rfl rfl ?_
  obtain ⟨hr1, hr2, hw⟩ := hw
  refine gn_X0_48 (pc := 17) C (hlm.1 ▸ hr1) (hlm.2 ▸ hr2) dX0_putIt_17 (fun h_8 eh_8 => ?_)
  obtain ⟨a_9, ea_9⟩ : ∃ z : Nat, z = hZ h_5 := ⟨_, rfl⟩
  rw [← ea_9]
  replace hw := hw a_9 h_8 ea_9 eh_8
  refine gk_dup (pc := 20) C.1 dX0_putIt_20 rfl ?_
  refine gk_iload_n (pc := 21) C.1 2 dX0_putIt_21 rfl rfl ?_
  refine gc_X0_65 (pc := 22) (As := [.int x2]) (rest := [.ref a_9, .int x1, .ref x0]) C hCl (Nat.le_refl _) hw rfl rfl (Nat.le_of_ble_eq_true rfl) dX0_putIt_22 (fun v9 h_10 hp => ?_) (fun q_11 h_12 hw ht9 => ?_)
  rotate_left
  · exact gx_out C S0 (by rw [hTb]; decide) ht9 hw
  clear hw
  obtain ⟨rfl, hw⟩ := hp
  refine GK.at (p2 := 25) rfl ?_
  refine gc_X0_188 (pc := 25) (As := [.int x1, .ref a_9]) (rest := []) C hCl (Nat.le_refl _) hw rfl rfl (Nat.le_of_ble_eq_true rfl) dX0_putIt_25 (fun v9 h_13 hp => ?_) (fun q_15 h_16 hw ht9 => ?_)
  rotate_left
  · exact gx_out C S0 (by rw [hTb]; decide) ht9 hw
  clear hw
  obtain ⟨r_14, rfl, hw⟩ := hp
  refine GK.at (p2 := 28) rfl ?_
  exact gh_iret (pc := 28) C S0 hret dX0_putIt_28 hw
/-! 123: GathersAllFaults.puts(II)I -/
def wb_X0_puts (cl : CT) (lm : Nat × Nat) (Q : QT) (E : ET) (x0 : Nat) (x1 : Int32) (x2 : Int32) (h : HS) : Prop := dp_GathersAllFaults_act cl x0 [.int 5, .int x1, .int x2, .int 0] h (gI (fun r_2 h_1 => Q (some (.int r_2)) h_1)) E
theorem wx_X0_puts {l : Launch} (hst : l.stackTraces = false) {G : GG} {cl : CT} {lm : Nat × Nat} {Q : QT} {E : ET} {d2 : Nat} (hCl : CallsOK l G d2 cl ∧ hLm G lm ∧ 8 ≤ d2 ∧ LamsOK l G d2 cl) {x0 : Nat} {x1 : Int32} {x2 : Int32} {h : HS} (hw : wb_X0_puts cl lm Q E x0 x1 x2 h) : HMet l G yX0_puts (ws_ yX0_puts cX0_puts 3 ((Option.some Jvm.ClassFile.FieldType.int))) (d2 + 1) [.ref x0, .int x1, .int x2] h Q E := by
  refine gh_met (own := RX0) rfl (by decide +kernel) hst (by simp only [lg_sl_i, lg_sl_r, lg_sl_a, lg_sl_2, lg_sl_f, lg_sl_0]; decide) (fun X hXl hXn hret hnm hTb h0 eh C S0 => ?_)
  subst hXl
  have hlm := hCl.2.1
  have hd8 := hCl.2.2.1
  have hd2 : 1 ≤ d2 := Nat.le_trans (by decide) hd8
  have hLa := hCl.2.2.2
  have hd1 : 1 ≤ d2 + 1 := Nat.le_add_left _ _
  have hC9 := hCl
  replace hCl := hCl.1
  have hini : True := trivial
  unfold wb_X0_puts at hw
  refine GK.sub (lv' := [(0, .ref x0), (1, .int x1), (2, .int x2)]) [0, 1, 2] (by simp only [lv_args_i, lv_args_r, lv_args_a, lv_args_l, lv_args_f, lv_args_0]; rfl) ?_
  refine gk_aload_n (pc := 0) C.1 0 dX0_puts_0 rfl rfl ?_
  refine gk_iconst (pc := 1) (v := 5) C.1 dX0_puts_1 (by decide) ?_
  refine gk_iload_n (pc := 2) C.1 1 dX0_puts_2 rfl rfl ?_
  refine gk_iload_n (pc := 3) C.1 2 dX0_puts_3 rfl rfl ?_
  refine gk_iconst (pc := 4) (v := 0) C.1 dX0_puts_4 (by decide) ?_
  refine gc_X0_455 (pc := 5) (As := [.int 5, .int x1, .int x2, .int 0]) (rest := []) C hCl (Nat.le_refl _) hw rfl rfl (Nat.le_of_ble_eq_true rfl) dX0_puts_5 (fun v9 h_1 hp => ?_) (fun q_3 h_4 hw ht9 => ?_)
  rotate_left
  · exact gx_out C S0 (by rw [hTb]; decide) ht9 hw
  clear hw
  obtain ⟨r_2, rfl, hw⟩ := hp
  refine GK.at (p2 := 8) rfl ?_
  exact gh_iret (pc := 8) C S0 hret dX0_puts_8 hw
/-! 124: GathersAllFaults.range(II)I -/
def wb_X0_range (cl : CT) (lm : Nat × Nat) (Q : QT) (E : ET) (x0 : Nat) (x1 : Int32) (x2 : Int32) (h : HS) : Prop := dp_GathersAllFaults_act cl x0 [.int 20, .int x1, .int x2, .int 0] h (gI (fun r_2 h_1 => Q (some (.int r_2)) h_1)) E
theorem wx_X0_range {l : Launch} (hst : l.stackTraces = false) {G : GG} {cl : CT} {lm : Nat × Nat} {Q : QT} {E : ET} {d2 : Nat} (hCl : CallsOK l G d2 cl ∧ hLm G lm ∧ 8 ≤ d2 ∧ LamsOK l G d2 cl) {x0 : Nat} {x1 : Int32} {x2 : Int32} {h : HS} (hw : wb_X0_range cl lm Q E x0 x1 x2 h) : HMet l G yX0_range (ws_ yX0_range cX0_range 3 ((Option.some Jvm.ClassFile.FieldType.int))) (d2 + 1) [.ref x0, .int x1, .int x2] h Q E := by
  refine gh_met (own := RX0) rfl (by decide +kernel) hst (by simp only [lg_sl_i, lg_sl_r, lg_sl_a, lg_sl_2, lg_sl_f, lg_sl_0]; decide) (fun X hXl hXn hret hnm hTb h0 eh C S0 => ?_)
  subst hXl
  have hlm := hCl.2.1
  have hd8 := hCl.2.2.1
  have hd2 : 1 ≤ d2 := Nat.le_trans (by decide) hd8
  have hLa := hCl.2.2.2
  have hd1 : 1 ≤ d2 + 1 := Nat.le_add_left _ _
  have hC9 := hCl
  replace hCl := hCl.1
  have hini : True := trivial
  unfold wb_X0_range at hw
  refine GK.sub (lv' := [(0, .ref x0), (1, .int x1), (2, .int x2)]) [0, 1, 2] (by simp only [lv_args_i, lv_args_r, lv_args_a, lv_args_l, lv_args_f, lv_args_0]; rfl) ?_
  refine gk_aload_n (pc := 0) C.1 0 dX0_range_0 rfl rfl ?_
  refine gk_bipush (pc := 1) (v := 20) C.1 dX0_range_1 (by decide) ?_
  refine gk_iload_n (pc := 3) C.1 1 dX0_range_3 rfl rfl ?_
  refine gk_iload_n (pc := 4) C.1 2 dX0_range_4 rfl rfl ?_
  refine gk_iconst (pc := 5) (v := 0) C.1 dX0_range_5 (by decide) ?_
  refine gc_X0_455 (pc := 6) (As := [.int 20, .int x1, .int x2, .int 0]) (rest := []) C hCl (Nat.le_refl _) hw rfl rfl (Nat.le_of_ble_eq_true rfl) dX0_range_6 (fun v9 h_1 hp => ?_) (fun q_3 h_4 hw ht9 => ?_)
  rotate_left
  · exact gx_out C S0 (by rw [hTb]; decide) ht9 hw
  clear hw
  obtain ⟨r_2, rfl, hw⟩ := hp
  refine GK.at (p2 := 9) rfl ?_
  exact gh_iret (pc := 9) C S0 hret dX0_range_9 hw
/-! 125: GathersAllFaults.rangeTold(II)I -/
def wb_X0_rangeTold_30 (cl : CT) (lm : Nat × Nat) (Q : QT) (E : ET) (J12 : Nat → Int32 → Int32 → Int32 → HS → Prop) (x0 : Nat) (x1 : Int32) (x2 : Int32) (x3 : Int32) (s0 : Int32) (h : HS) : Prop := dp_GathersAllFaults_findingWith cl x0 [.int x1, .int s0] h (gR (fun r_2 h_1 => ∃ a_5 : Nat, r_2 = some a_5 ∧ (dp_Finding_below cl a_5 [.int x1] h_1 (gI (fun r_7 h_6 => ((¬ r_7 = 0 → (∀ x_11 : Int32, x_11 = x3 + 1 → (J12 x0 x1 x2 x_11 h_6))) ∧ (r_7 = 0 → (Q (some (.int s0)) h_6))))) E))) E
theorem wk_X0_rangeTold_30 {X : Ev} {G : GG} {cl : CT} {lm : Nat × Nat} {Q : QT} {E : ET} {h0 : HS} {d2 : Nat} {J12 : Nat → Int32 → Int32 → Int32 → HS → Prop} (C : HC X G RX0 cX0_rangeTold (d2 + 1)) (hCl : CallsOK (ev_l X) G d2 cl ∧ hLm G lm ∧ 8 ≤ d2 ∧ LamsOK (ev_l X) G d2 cl) (S0 : HS0 X h0) (hret : (ev_h X).sig.returnType = (Option.some Jvm.ClassFile.FieldType.int)) (hXn : ev_n X = 5) (hini : True) (hTb : (ev_c X).exceptionTable.toList = []) (hJ12 : ∀ (x0 : Nat) (x1 : Int32) (x2 : Int32) (x3 : Int32) (h : HS), J12 x0 x1 x2 x3 h → GH X G h (hQ X G h0 Q E) 12 [(0, .ref x0), (1, .int x1), (2, .int x2), (3, .int x3)] []) : ∀ (x0 : Nat) (x1 : Int32) (x2 : Int32) (x3 : Int32) (s0 : Int32) (h : HS), wb_X0_rangeTold_30 cl lm Q E J12 x0 x1 x2 x3 s0 h → GH X G h (hQ X G h0 Q E) 30 [(0, .ref x0), (1, .int x1), (2, .int x2), (3, .int x3)] [.int s0] := by
  have hlm := hCl.2.1
  have hd8 := hCl.2.2.1
  have hd2 : 1 ≤ d2 := Nat.le_trans (by decide) hd8
  have hLa := hCl.2.2.2
  have hd1 : 1 ≤ d2 + 1 := Nat.le_add_left _ _
  have hC9 := hCl
  replace hCl := hCl.1
  intro x0 x1 x2 x3 s0 h hw
  unfold wb_X0_rangeTold_30 at hw
  refine gk_istore (pc := 30) (lv' := [(4, Value.int s0), (0, Value.ref x0), (1, Value.int x1), (2, Value.int x2), (3, Value.int x3)]) C.1 dX0_rangeTold_30 (by rw [hXn]; decide) (by first | rfl | simp [va_rf_S, va_rf_cat, cat_i, cat_a, cat_l, cat_f, fin4_0, fin4_1, fin4_2, fin4_3]) ?_
  refine gk_aload_n (pc := 32) C.1 1 dX0_rangeTold_32 rfl rfl ?_
  refine gk_iload_n (pc := 33) C.1 2 dX0_rangeTold_33 rfl rfl ?_
  refine gk_iload (pc := 34) C.1 0 dX0_rangeTold_34 rfl ?_
  refine gc_X0_282 (pc := 36) (As := [.int x1, .int s0]) (rest := []) C hCl (Nat.le_refl _) hw rfl rfl (Nat.le_of_ble_eq_true rfl) dX0_rangeTold_36 (fun v9 h_1 hp => ?_) (fun q_3 h_4 hw ht9 => ?_)
  rotate_left
  · exact gx_out C S0 (by rw [hTb]; decide) ht9 hw
  clear hw
  obtain ⟨r_2, rfl, hw⟩ := hp
  refine GK.at (p2 := 39) rfl ?_
  refine gk_iload_n (pc := 39) C.1 2 dX0_rangeTold_39 rfl rfl ?_
  obtain ⟨a_5, rfl, hw⟩ := hw
  refine gc_X0_242 (pc := 40) (As := [.int x1]) (rest := []) C hCl (Nat.le_refl _) hw rfl rfl (Nat.le_of_ble_eq_true rfl) dX0_rangeTold_40 (fun v9 h_6 hp => ?_) (fun q_8 h_9 hw ht9 => ?_)
  rotate_left
  · exact gx_out C S0 (by rw [hTb]; decide) ht9 hw
  clear hw
  obtain ⟨r_7, rfl, hw⟩ := hp
  refine GK.at (p2 := 43) rfl ?_
  refine gk_if_ne (pc := 43) (tgt := 49) C.1 dX0_rangeTold_43 (by decide) (fun c_10 => ?_) (fun c_10 => ?_)
  · replace hw := hw.1 c_10
    obtain ⟨x_11, ex_11⟩ : ∃ z : Int32, z = x3 + 1 := ⟨_, rfl⟩
    replace hw := hw x_11 ex_11
    refine gk_iinc (pc := 49) (v := x_11) (lv' := [(3, Value.int x_11), (4, Value.int s0), (0, Value.ref x0), (1, Value.int x1), (2, Value.int x2)]) C.1 4 dX0_rangeTold_49 rfl (by rw [ex_11]; rfl) (by rw [hXn]; decide) (by first | rfl | simp [va_rf_S, va_rf_cat, cat_i, cat_a, cat_l, cat_f, fin4_0, fin4_1, fin4_2, fin4_3]) ?_
    refine gk_goto (pc := 52) (tgt := 12) C.1 dX0_rangeTold_52 (by decide) ?_
    refine GK.sub (lv' := [(0, .ref x0), (1, .int x1), (2, .int x2), (3, .int x_11)]) [2, 3, 4, 0] rfl ?_
    exact hJ12 _ _ _ _ _ hw
  · replace hw := hw.2 c_10
    refine gk_iload (pc := 46) C.1 0 dX0_rangeTold_46 rfl ?_
    exact gh_iret (pc := 48) C S0 hret dX0_rangeTold_48 hw
def wb_X0_rangeTold_12 (cl : CT) (lm : Nat × Nat) (Q : QT) (E : ET) : Nat → Nat → Int32 → Int32 → Int32 → HS → Prop
  | 0 => fun _ _ _ _ _ => False
  | n + 1 => fun x0 x1 x2 x3 h => ((99 < x3 → (Q (some (.int (-9))) h)) ∧ (¬ 99 < x3 → (((¬ x2 = 0 → (wb_X0_rangeTold_30 cl lm Q E (fun yx0 yx1 yx2 yx3 yh => wb_X0_rangeTold_12 cl lm Q E n yx0 yx1 yx2 yx3 yh) x0 x1 x2 x3 (99 - x3) h)) ∧ (x2 = 0 → (wb_X0_rangeTold_30 cl lm Q E (fun yx0 yx1 yx2 yx3 yh => wb_X0_rangeTold_12 cl lm Q E n yx0 yx1 yx2 yx3 yh) x0 x1 x2 x3 x3 h))))))
theorem wk_X0_rangeTold_12 {X : Ev} {G : GG} {cl : CT} {lm : Nat × Nat} {Q : QT} {E : ET} {h0 : HS} {d2 : Nat} (C : HC X G RX0 cX0_rangeTold (d2 + 1)) (hCl : CallsOK (ev_l X) G d2 cl ∧ hLm G lm ∧ 8 ≤ d2 ∧ LamsOK (ev_l X) G d2 cl) (S0 : HS0 X h0) (hret : (ev_h X).sig.returnType = (Option.some Jvm.ClassFile.FieldType.int)) (hXn : ev_n X = 5) (hini : True) (hTb : (ev_c X).exceptionTable.toList = []) : ∀ (n : Nat) (x0 : Nat) (x1 : Int32) (x2 : Int32) (x3 : Int32) (h : HS), wb_X0_rangeTold_12 cl lm Q E n x0 x1 x2 x3 h → GH X G h (hQ X G h0 Q E) 12 [(0, .ref x0), (1, .int x1), (2, .int x2), (3, .int x3)] [] := by
  have hlm := hCl.2.1
  have hd8 := hCl.2.2.1
  have hd2 : 1 ≤ d2 := Nat.le_trans (by decide) hd8
  have hLa := hCl.2.2.2
  have hd1 : 1 ≤ d2 + 1 := Nat.le_add_left _ _
  have hC9 := hCl
  replace hCl := hCl.1
  intro n
  induction n with
  | zero => intro x0 x1 x2 x3 h hw; exact hw.elim
  | succ n ih =>
  intro x0 x1 x2 x3 h hw
  unfold wb_X0_rangeTold_12 at hw
  refine gk_iload_n (pc := 12) C.1 3 dX0_rangeTold_12 rfl rfl ?_
  refine gk_bipush (pc := 13) (v := 99) C.1 dX0_rangeTold_13 (by decide) ?_
  refine gk_icmp_gt (pc := 15) (tgt := 55) C.1 dX0_rangeTold_15 (by decide) (fun c_1 => ?_) (fun c_1 => ?_)
  · replace hw := hw.1 c_1
    refine gk_bipush (pc := 55) (v := (-9)) C.1 dX0_rangeTold_55 (by decide) ?_
    exact gh_iret (pc := 57) C S0 hret dX0_rangeTold_57 hw
  · replace hw := hw.2 c_1
    refine gk_iload_n (pc := 18) C.1 2 dX0_rangeTold_18 rfl rfl ?_
    refine gk_if_ne (pc := 19) (tgt := 26) C.1 dX0_rangeTold_19 (by decide) (fun c_2 => ?_) (fun c_2 => ?_)
    · replace hw := hw.1 c_2
      refine gk_bipush (pc := 26) (v := 99) C.1 dX0_rangeTold_26 (by decide) ?_
      refine gk_iload_n (pc := 28) C.1 3 dX0_rangeTold_28 rfl rfl ?_
      refine gk_isub (pc := 29) C.1 dX0_rangeTold_29 ?_
      refine GK.sub (lv' := [(0, .ref x0), (1, .int x1), (2, .int x2), (3, .int x3)]) [0, 1, 2, 3] rfl ?_
      exact wk_X0_rangeTold_30 C hC9 S0 hret hXn hini hTb ih _ _ _ _ _ _ hw
    · replace hw := hw.2 c_2
      refine gk_iload_n (pc := 22) C.1 3 dX0_rangeTold_22 rfl rfl ?_
      refine gk_goto (pc := 23) (tgt := 30) C.1 dX0_rangeTold_23 (by decide) ?_
      refine GK.sub (lv' := [(0, .ref x0), (1, .int x1), (2, .int x2), (3, .int x3)]) [0, 1, 2, 3] rfl ?_
      exact wk_X0_rangeTold_30 C hC9 S0 hret hXn hini hTb ih _ _ _ _ _ _ hw
def wb_X0_rangeTold (cl : CT) (lm : Nat × Nat) (Q : QT) (E : ET) (x0 : Nat) (x1 : Int32) (x2 : Int32) (h : HS) : Prop := dp_GathersAllFaults_at cl x0 [.int x1] h (gR (fun r_2 h_1 => cl 105 [.int x2] h_1 (gV (fun h_5 => ∃ fu : Nat, wb_X0_rangeTold_12 cl lm Q E fu x0 x1 x2 0 h_5)) E)) E
theorem wx_X0_rangeTold {l : Launch} (hst : l.stackTraces = false) {G : GG} {cl : CT} {lm : Nat × Nat} {Q : QT} {E : ET} {d2 : Nat} (hCl : CallsOK l G d2 cl ∧ hLm G lm ∧ 8 ≤ d2 ∧ LamsOK l G d2 cl) {x0 : Nat} {x1 : Int32} {x2 : Int32} {h : HS} (hw : wb_X0_rangeTold cl lm Q E x0 x1 x2 h) : HMet l G yX0_rangeTold (ws_ yX0_rangeTold cX0_rangeTold 5 ((Option.some Jvm.ClassFile.FieldType.int))) (d2 + 1) [.ref x0, .int x1, .int x2] h Q E := by
  refine gh_met (own := RX0) rfl (by decide +kernel) hst (by simp only [lg_sl_i, lg_sl_r, lg_sl_a, lg_sl_2, lg_sl_f, lg_sl_0]; decide) (fun X hXl hXn hret hnm hTb h0 eh C S0 => ?_)
  subst hXl
  have hlm := hCl.2.1
  have hd8 := hCl.2.2.1
  have hd2 : 1 ≤ d2 := Nat.le_trans (by decide) hd8
  have hLa := hCl.2.2.2
  have hd1 : 1 ≤ d2 + 1 := Nat.le_add_left _ _
  have hC9 := hCl
  replace hCl := hCl.1
  have hini : True := trivial
  unfold wb_X0_rangeTold at hw
  refine GK.sub (lv' := [(0, .ref x0), (1, .int x1), (2, .int x2)]) [0, 1, 2] (by simp only [lv_args_i, lv_args_r, lv_args_a, lv_args_l, lv_args_f, lv_args_0]; rfl) ?_
  refine gk_aload_n (pc := 0) C.1 0 dX0_rangeTold_0 rfl rfl ?_
  refine gk_iload_n (pc := 1) C.1 1 dX0_rangeTold_1 rfl rfl ?_
  refine gc_X0_173 (pc := 2) (As := [.int x1]) (rest := []) C hCl (Nat.le_refl _) hw rfl rfl (Nat.le_of_ble_eq_true rfl) dX0_rangeTold_2 (fun v9 h_1 hp => ?_) (fun q_3 h_4 hw ht9 => ?_)
  rotate_left
  · exact gx_out C S0 (by rw [hTb]; decide) ht9 hw
  clear hw
  obtain ⟨r_2, rfl, hw⟩ := hp
  refine GK.at (p2 := 5) rfl ?_
  refine gk_pop (pc := 5) C.1 dX0_rangeTold_5 (va_rf_cat _) ?_
  refine gk_iload_n (pc := 6) C.1 2 dX0_rangeTold_6 rfl rfl ?_
  refine gc_X0_226 (pc := 7) (As := [.int x2]) (rest := []) C hCl (Nat.le_refl _) hw rfl rfl (Nat.le_of_ble_eq_true rfl) dX0_rangeTold_7 (fun v9 h_5 hp => ?_) (fun q_6 h_7 hw ht9 => ?_)
  rotate_left
  · exact gx_out C S0 (by rw [hTb]; decide) ht9 hw
  clear hw
  obtain ⟨rfl, hw⟩ := hp
  refine GK.at (p2 := 10) rfl ?_
  refine gk_iconst (pc := 10) (v := 0) C.1 dX0_rangeTold_10 (by decide) ?_
  refine gk_istore_n (pc := 11) (lv' := [(3, Value.int 0), (0, Value.ref x0), (1, Value.int x1), (2, Value.int x2)]) C.1 dX0_rangeTold_11 rfl (by rw [hXn]; decide) (by first | rfl | simp [va_rf_S, va_rf_cat, cat_i, cat_a, cat_l, cat_f, fin4_0, fin4_1, fin4_2, fin4_3]) ?_
  refine GK.sub (lv' := [(0, .ref x0), (1, .int x1), (2, .int x2), (3, .int 0)]) [1, 2, 3, 0] rfl ?_
  obtain ⟨n9, hw⟩ := hw
  exact wk_X0_rangeTold_12 C hC9 S0 hret hXn hini hTb  n9 _ _ _ _ _ hw
/-! 126: GathersAllFaults.readCheck()I -/
def wb_X0_readCheck_56 (cl : CT) (lm : Nat × Nat) (Q : QT) (E : ET) (x0 : Nat) (s0 : Nat) (h : HS) : Prop := (hT h x0 = 1) ∧ (∀ h_1 : HS, h_1 = sI h 8 x0 0 → ((hT h_1 s0 = 16 ∨ hT h_1 s0 = 17) ∧ (E s0 h_1)))
theorem wk_X0_readCheck_56 {X : Ev} {G : GG} {cl : CT} {lm : Nat × Nat} {Q : QT} {E : ET} {h0 : HS} {d2 : Nat} (C : HC X G RX0 cX0_readCheck (d2 + 1)) (hCl : CallsOK (ev_l X) G d2 cl ∧ hLm G lm ∧ 8 ≤ d2 ∧ LamsOK (ev_l X) G d2 cl) (S0 : HS0 X h0) (hret : (ev_h X).sig.returnType = (Option.some Jvm.ClassFile.FieldType.int)) (hXn : ev_n X = 5) (hini : True) (hTb : (ev_c X).exceptionTable.toList = tableOf [(0, 49, 56, 0), (56, 58, 56, 0)]) : ∀ (x0 : Nat) (s0 : Nat) (h : HS), wb_X0_readCheck_56 cl lm Q E x0 s0 h → GH X G h (hQ X G h0 Q E) 56 [(0, .ref x0)] [.ref s0] := by
  have hlm := hCl.2.1
  have hd8 := hCl.2.2.1
  have hd2 : 1 ≤ d2 := Nat.le_trans (by decide) hd8
  have hLa := hCl.2.2.2
  have hd1 : 1 ≤ d2 + 1 := Nat.le_add_left _ _
  have hC9 := hCl
  replace hCl := hCl.1
  intro x0 s0 h hw
  unfold wb_X0_readCheck_56 at hw
  refine gk_astore (pc := 56) (lv' := [(4, Value.ref s0), (0, Value.ref x0)]) C.1 dX0_readCheck_56 (by rw [hXn]; decide) (by first | rfl | simp [va_rf_S, va_rf_cat, cat_i, cat_a, cat_l, cat_f, fin4_0, fin4_1, fin4_2, fin4_3]) ?_
  refine gk_aload_n (pc := 58) C.1 1 dX0_readCheck_58 rfl rfl ?_
  refine gk_iconst (pc := 59) (v := 0) C.1 dX0_readCheck_59 (by decide) ?_
  obtain ⟨ht, hw⟩ := hw
  refine gfp_X0_123 (pc := 60) C ht dX0_readCheck_60 (fun h_1 eh_1 => ?_)
  replace hw := hw h_1 eh_1
  refine gk_aload (pc := 63) C.1 0 dX0_readCheck_63 rfl ?_
  refine gh_athrow (pc := 65) C dX0_readCheck_65 ?_
  obtain ⟨ht9, hw⟩ := hw
  exact gx_out C S0 (by rw [hTb]; decide) ht9 hw
def wb_X0_readCheck (cl : CT) (lm : Nat × Nat) (Q : QT) (E : ET) (x0 : Nat) (h : HS) : Prop := hZ h + 1 ≤ lm.1 ∧ (hL h + 7 ≤ lm.2 ∧ (∀ (a_2 : Nat) (h_1 : HS), a_2 = hZ h → h_1 = hNew h 15 0 7 → (cl 185 (.ref a_2 :: [.ref x0]) h_1 (gV (fun h_3 => hZ h_3 + 1 ≤ lm.1 ∧ (hL h_3 + 3 ≤ lm.2 ∧ (∀ (a_7 : Nat) (h_6 : HS), a_7 = hZ h_3 → h_6 = hNew h_3 11 0 3 → (cl 157 (.ref a_7 :: []) h_6 (gV (fun h_8 => dp_Reader_check cl a_2 [.ref a_7, .int 0] h_8 (gR (fun r_12 h_11 => (hT h_11 a_7 = 11) ∧ (∀ h_15 : HS, h_15 = sR h_11 34 a_7 r_12 → (dp_Reader_end cl a_2 [] h_15 (gV (fun h_16 => (hT h_16 a_2 = 15) ∧ ((hT h_16 a_7 = 11) ∧ (∀ h_19 : HS, h_19 = sI h_16 35 a_7 (hI h_16 51 a_2) → ((hT h_19 x0 = 1) ∧ (∀ h_20 : HS, h_20 = sR h_19 1 x0 (some a_7) → ((hT h_20 a_7 = 11) ∧ (∀ x_21 : Int32, x_21 = hI h_20 35 a_7 → ((hT h_20 x0 = 1) ∧ (∀ h_22 : HS, h_22 = sI h_20 8 x0 0 → (Q (some (.int x_21)) h_22))))))))))) (fun q_17 h_18 => wb_X0_readCheck_56 cl lm Q E x0 q_17 h_18))))) (fun q_13 h_14 => wb_X0_readCheck_56 cl lm Q E x0 q_13 h_14))) (fun q_9 h_10 => wb_X0_readCheck_56 cl lm Q E x0 q_9 h_10)))))) (fun q_4 h_5 => wb_X0_readCheck_56 cl lm Q E x0 q_4 h_5))))
theorem wx_X0_readCheck {l : Launch} (hst : l.stackTraces = false) {G : GG} {cl : CT} {lm : Nat × Nat} {Q : QT} {E : ET} {d2 : Nat} (hCl : CallsOK l G d2 cl ∧ hLm G lm ∧ 8 ≤ d2 ∧ LamsOK l G d2 cl) {x0 : Nat} {h : HS} (hw : wb_X0_readCheck cl lm Q E x0 h) : HMet l G yX0_readCheck (wsW_ yX0_readCheck cX0_readCheck 5 ((Option.some Jvm.ClassFile.FieldType.int)) [(0, 49, 56, 0), (56, 58, 56, 0)]) (d2 + 1) [.ref x0] h Q E := by
  refine gh_metW (own := RX0) rfl (by decide +kernel) hst (by simp only [lg_sl_i, lg_sl_r, lg_sl_a, lg_sl_2, lg_sl_f, lg_sl_0]; decide) (fun X hXl hXn hret hnm hTb h0 eh C S0 => ?_)
  subst hXl
  have hlm := hCl.2.1
  have hd8 := hCl.2.2.1
  have hd2 : 1 ≤ d2 := Nat.le_trans (by decide) hd8
  have hLa := hCl.2.2.2
  have hd1 : 1 ≤ d2 + 1 := Nat.le_add_left _ _
  have hC9 := hCl
  replace hCl := hCl.1
  have hini : True := trivial
  unfold wb_X0_readCheck at hw
  refine GK.sub (lv' := [(0, .ref x0)]) [0] (by simp only [lv_args_i, lv_args_r, lv_args_a, lv_args_l, lv_args_f, lv_args_0]; rfl) ?_
  obtain ⟨hr1, hr2, hw⟩ := hw
  refine gn_X0_111 (pc := 0) C (hlm.1 ▸ hr1) (hlm.2 ▸ hr2) dX0_readCheck_0 (fun h_1 eh_1 => ?_)
  obtain ⟨a_2, ea_2⟩ : ∃ z : Nat, z = hZ h := ⟨_, rfl⟩
  rw [← ea_2]
  replace hw := hw a_2 h_1 ea_2 eh_1
  refine gk_dup (pc := 3) C.1 dX0_readCheck_3 rfl ?_
  refine gk_aload_n (pc := 4) C.1 0 dX0_readCheck_4 rfl rfl ?_
  refine gc_X0_113 (pc := 5) (As := [.ref x0]) (rest := [.ref a_2]) C hCl (Nat.le_refl _) hw rfl rfl (Nat.le_of_ble_eq_true rfl) dX0_readCheck_5 (fun v9 h_3 hp => ?_) (fun q_4 h_5 hw ht9 => ?_)
  rotate_left
  · refine gx_any C [] ⟨0, 49, 56, 0⟩ [⟨56, 58, 56, 0⟩] (by rw [hTb]; rfl) (by decide) (by decide) rfl ht9 ?_
    refine GK.sub (lv' := [(0, .ref x0)]) [0] rfl ?_
    exact wk_X0_readCheck_56 C hC9 S0 hret hXn hini hTb  _ _ _ hw
  clear hw
  obtain ⟨rfl, hw⟩ := hp
  refine GK.at (p2 := 8) rfl ?_
  refine gk_astore_n (pc := 8) (lv' := [(1, Value.ref a_2), (0, Value.ref x0)]) C.1 dX0_readCheck_8 rfl (by rw [hXn]; decide) (by first | rfl | simp [va_rf_S, va_rf_cat, cat_i, cat_a, cat_l, cat_f, fin4_0, fin4_1, fin4_2, fin4_3]) ?_
  obtain ⟨hr1, hr2, hw⟩ := hw
  refine gn_X0_70 (pc := 9) C (hlm.1 ▸ hr1) (hlm.2 ▸ hr2) dX0_readCheck_9 (fun h_6 eh_6 => ?_)
  obtain ⟨a_7, ea_7⟩ : ∃ z : Nat, z = hZ h_3 := ⟨_, rfl⟩
  rw [← ea_7]
  replace hw := hw a_7 h_6 ea_7 eh_6
  refine gk_dup (pc := 12) C.1 dX0_readCheck_12 rfl ?_
  refine gc_X0_72 (pc := 13) (As := []) (rest := [.ref a_7]) C hCl (Nat.le_refl _) hw rfl rfl (Nat.le_of_ble_eq_true rfl) dX0_readCheck_13 (fun v9 h_8 hp => ?_) (fun q_9 h_10 hw ht9 => ?_)
  rotate_left
  · refine gx_any C [] ⟨0, 49, 56, 0⟩ [⟨56, 58, 56, 0⟩] (by rw [hTb]; rfl) (by decide) (by decide) rfl ht9 ?_
    refine GK.sub (lv' := [(0, .ref x0)]) [1] rfl ?_
    exact wk_X0_readCheck_56 C hC9 S0 hret hXn hini hTb  _ _ _ hw
  clear hw
  obtain ⟨rfl, hw⟩ := hp
  refine GK.at (p2 := 16) rfl ?_
  refine gk_astore_n (pc := 16) (lv' := [(2, Value.ref a_7), (1, Value.ref a_2), (0, Value.ref x0)]) C.1 dX0_readCheck_16 rfl (by rw [hXn]; decide) (by first | rfl | simp [va_rf_S, va_rf_cat, cat_i, cat_a, cat_l, cat_f, fin4_0, fin4_1, fin4_2, fin4_3]) ?_
  refine gk_aload_n (pc := 17) C.1 0 dX0_readCheck_17 rfl rfl ?_
  refine gk_aload_n (pc := 18) C.1 1 dX0_readCheck_18 rfl rfl ?_
  refine gk_aload_n (pc := 19) C.1 0 dX0_readCheck_19 rfl rfl ?_
  refine gk_iconst (pc := 20) (v := 0) C.1 dX0_readCheck_20 (by decide) ?_
  refine gc_X0_126 (pc := 21) (As := [.ref a_7, .int 0]) (rest := [.ref a_7]) C hCl (Nat.le_refl _) hw rfl rfl (Nat.le_of_ble_eq_true rfl) dX0_readCheck_21 (fun v9 h_11 hp => ?_) (fun q_13 h_14 hw ht9 => ?_)
  rotate_left
  · refine gx_any C [] ⟨0, 49, 56, 0⟩ [⟨56, 58, 56, 0⟩] (by rw [hTb]; rfl) (by decide) (by decide) rfl ht9 ?_
    refine GK.sub (lv' := [(0, .ref x0)]) [2] rfl ?_
    exact wk_X0_readCheck_56 C hC9 S0 hret hXn hini hTb  _ _ _ hw
  clear hw
  obtain ⟨r_12, rfl, hw⟩ := hp
  refine GK.at (p2 := 24) rfl ?_
  obtain ⟨ht, hw⟩ := hw
  refine gfp_X0_130 (pc := 24) (r := r_12) C ht dX0_readCheck_24 (fun h_15 eh_15 => ?_)
  replace hw := hw h_15 eh_15
  refine gk_aload_n (pc := 27) C.1 1 dX0_readCheck_27 rfl rfl ?_
  refine gc_X0_120 (pc := 28) (As := []) (rest := []) C hCl (Nat.le_refl _) hw rfl rfl (Nat.le_of_ble_eq_true rfl) dX0_readCheck_28 (fun v9 h_16 hp => ?_) (fun q_17 h_18 hw ht9 => ?_)
  rotate_left
  · refine gx_any C [] ⟨0, 49, 56, 0⟩ [⟨56, 58, 56, 0⟩] (by rw [hTb]; rfl) (by decide) (by decide) rfl ht9 ?_
    refine GK.sub (lv' := [(0, .ref x0)]) [2] rfl ?_
    exact wk_X0_readCheck_56 C hC9 S0 hret hXn hini hTb  _ _ _ hw
  clear hw
  obtain ⟨rfl, hw⟩ := hp
  refine GK.at (p2 := 31) rfl ?_
  refine gk_aload_n (pc := 31) C.1 0 dX0_readCheck_31 rfl rfl ?_
  refine gk_aload_n (pc := 32) C.1 1 dX0_readCheck_32 rfl rfl ?_
  obtain ⟨ht, hw⟩ := hw
  refine gf_X0_134 (pc := 33) C ht dX0_readCheck_33 ?_
  obtain ⟨ht, hw⟩ := hw
  refine gfp_X0_137 (pc := 36) C ht dX0_readCheck_36 (fun h_19 eh_19 => ?_)
  replace hw := hw h_19 eh_19
  refine gk_aload_n (pc := 39) C.1 2 dX0_readCheck_39 rfl rfl ?_
  refine gk_aload_n (pc := 40) C.1 0 dX0_readCheck_40 rfl rfl ?_
  obtain ⟨ht, hw⟩ := hw
  refine gfp_X0_73 (pc := 41) (r := (some a_7)) C ht dX0_readCheck_41 (fun h_20 eh_20 => ?_)
  replace hw := hw h_20 eh_20
  refine gk_aload_n (pc := 44) C.1 0 dX0_readCheck_44 rfl rfl ?_
  obtain ⟨ht, hw⟩ := hw
  refine gf_X0_137 (pc := 45) C ht dX0_readCheck_45 ?_
  obtain ⟨x_21, ex_21⟩ : ∃ z : Int32, z = hI h_20 35 a_7 := ⟨_, rfl⟩
  rw [← ex_21]
  replace hw := hw x_21 ex_21
  refine gk_istore_n (pc := 48) (lv' := [(3, Value.int x_21), (2, Value.ref a_7), (1, Value.ref a_2), (0, Value.ref x0)]) C.1 dX0_readCheck_48 rfl (by rw [hXn]; decide) (by first | rfl | simp [va_rf_S, va_rf_cat, cat_i, cat_a, cat_l, cat_f, fin4_0, fin4_1, fin4_2, fin4_3]) ?_
  refine gk_aload_n (pc := 49) C.1 3 dX0_readCheck_49 rfl rfl ?_
  refine gk_iconst (pc := 50) (v := 0) C.1 dX0_readCheck_50 (by decide) ?_
  obtain ⟨ht, hw⟩ := hw
  refine gfp_X0_123 (pc := 51) C ht dX0_readCheck_51 (fun h_22 eh_22 => ?_)
  replace hw := hw h_22 eh_22
  refine gk_iload_n (pc := 54) C.1 0 dX0_readCheck_54 rfl rfl ?_
  exact gh_iret (pc := 55) C S0 hret dX0_readCheck_55 hw
/-! 127: GathersAllFaults.readValue()I -/
def wb_X0_readValue_36 (cl : CT) (lm : Nat × Nat) (Q : QT) (E : ET) (x0 : Nat) (s0 : Nat) (h : HS) : Prop := (hT h x0 = 1) ∧ (∀ h_1 : HS, h_1 = sI h 8 x0 0 → ((hT h_1 s0 = 16 ∨ hT h_1 s0 = 17) ∧ (E s0 h_1)))
theorem wk_X0_readValue_36 {X : Ev} {G : GG} {cl : CT} {lm : Nat × Nat} {Q : QT} {E : ET} {h0 : HS} {d2 : Nat} (C : HC X G RX0 cX0_readValue (d2 + 1)) (hCl : CallsOK (ev_l X) G d2 cl ∧ hLm G lm ∧ 8 ≤ d2 ∧ LamsOK (ev_l X) G d2 cl) (S0 : HS0 X h0) (hret : (ev_h X).sig.returnType = (Option.some Jvm.ClassFile.FieldType.int)) (hXn : ev_n X = 5) (hini : True) (hTb : (ev_c X).exceptionTable.toList = tableOf [(0, 29, 36, 0), (36, 38, 36, 0)]) : ∀ (x0 : Nat) (s0 : Nat) (h : HS), wb_X0_readValue_36 cl lm Q E x0 s0 h → GH X G h (hQ X G h0 Q E) 36 [(0, .ref x0)] [.ref s0] := by
  have hlm := hCl.2.1
  have hd8 := hCl.2.2.1
  have hd2 : 1 ≤ d2 := Nat.le_trans (by decide) hd8
  have hLa := hCl.2.2.2
  have hd1 : 1 ≤ d2 + 1 := Nat.le_add_left _ _
  have hC9 := hCl
  replace hCl := hCl.1
  intro x0 s0 h hw
  unfold wb_X0_readValue_36 at hw
  refine gk_astore (pc := 36) (lv' := [(4, Value.ref s0), (0, Value.ref x0)]) C.1 dX0_readValue_36 (by rw [hXn]; decide) (by first | rfl | simp [va_rf_S, va_rf_cat, cat_i, cat_a, cat_l, cat_f, fin4_0, fin4_1, fin4_2, fin4_3]) ?_
  refine gk_aload_n (pc := 38) C.1 1 dX0_readValue_38 rfl rfl ?_
  refine gk_iconst (pc := 39) (v := 0) C.1 dX0_readValue_39 (by decide) ?_
  obtain ⟨ht, hw⟩ := hw
  refine gfp_X0_123 (pc := 40) C ht dX0_readValue_40 (fun h_1 eh_1 => ?_)
  replace hw := hw h_1 eh_1
  refine gk_aload (pc := 43) C.1 0 dX0_readValue_43 rfl ?_
  refine gh_athrow (pc := 45) C dX0_readValue_45 ?_
  obtain ⟨ht9, hw⟩ := hw
  exact gx_out C S0 (by rw [hTb]; decide) ht9 hw
def wb_X0_readValue (cl : CT) (lm : Nat × Nat) (Q : QT) (E : ET) (x0 : Nat) (h : HS) : Prop := hZ h + 1 ≤ lm.1 ∧ (hL h + 7 ≤ lm.2 ∧ (∀ (a_2 : Nat) (h_1 : HS), a_2 = hZ h → h_1 = hNew h 15 0 7 → (cl 185 (.ref a_2 :: [.ref x0]) h_1 (gV (fun h_3 => dp_Reader_value cl a_2 [.int 0] h_3 (gR (fun r_7 h_6 => dp_Reader_end cl a_2 [] h_6 (gV (fun h_10 => (hT h_10 x0 = 1) ∧ (∀ h_13 : HS, h_13 = sR h_10 0 x0 r_7 → (∃ a_14 : Nat, r_7 = some a_14 ∧ (dp_Value_size cl a_14 [] h_13 (gI (fun r_16 h_15 => (hT h_15 x0 = 1) ∧ (∀ h_19 : HS, h_19 = sI h_15 8 x0 0 → (Q (some (.int r_16)) h_19)))) (fun q_17 h_18 => wb_X0_readValue_36 cl lm Q E x0 q_17 h_18)))))) (fun q_11 h_12 => wb_X0_readValue_36 cl lm Q E x0 q_11 h_12))) (fun q_8 h_9 => wb_X0_readValue_36 cl lm Q E x0 q_8 h_9))) (fun q_4 h_5 => wb_X0_readValue_36 cl lm Q E x0 q_4 h_5))))
theorem wx_X0_readValue {l : Launch} (hst : l.stackTraces = false) {G : GG} {cl : CT} {lm : Nat × Nat} {Q : QT} {E : ET} {d2 : Nat} (hCl : CallsOK l G d2 cl ∧ hLm G lm ∧ 8 ≤ d2 ∧ LamsOK l G d2 cl) {x0 : Nat} {h : HS} (hw : wb_X0_readValue cl lm Q E x0 h) : HMet l G yX0_readValue (wsW_ yX0_readValue cX0_readValue 5 ((Option.some Jvm.ClassFile.FieldType.int)) [(0, 29, 36, 0), (36, 38, 36, 0)]) (d2 + 1) [.ref x0] h Q E := by
  refine gh_metW (own := RX0) rfl (by decide +kernel) hst (by simp only [lg_sl_i, lg_sl_r, lg_sl_a, lg_sl_2, lg_sl_f, lg_sl_0]; decide) (fun X hXl hXn hret hnm hTb h0 eh C S0 => ?_)
  subst hXl
  have hlm := hCl.2.1
  have hd8 := hCl.2.2.1
  have hd2 : 1 ≤ d2 := Nat.le_trans (by decide) hd8
  have hLa := hCl.2.2.2
  have hd1 : 1 ≤ d2 + 1 := Nat.le_add_left _ _
  have hC9 := hCl
  replace hCl := hCl.1
  have hini : True := trivial
  unfold wb_X0_readValue at hw
  refine GK.sub (lv' := [(0, .ref x0)]) [0] (by simp only [lv_args_i, lv_args_r, lv_args_a, lv_args_l, lv_args_f, lv_args_0]; rfl) ?_
  obtain ⟨hr1, hr2, hw⟩ := hw
  refine gn_X0_111 (pc := 0) C (hlm.1 ▸ hr1) (hlm.2 ▸ hr2) dX0_readValue_0 (fun h_1 eh_1 => ?_)
  obtain ⟨a_2, ea_2⟩ : ∃ z : Nat, z = hZ h := ⟨_, rfl⟩
  rw [← ea_2]
  replace hw := hw a_2 h_1 ea_2 eh_1
  refine gk_dup (pc := 3) C.1 dX0_readValue_3 rfl ?_
  refine gk_aload_n (pc := 4) C.1 0 dX0_readValue_4 rfl rfl ?_
  refine gc_X0_113 (pc := 5) (As := [.ref x0]) (rest := [.ref a_2]) C hCl (Nat.le_refl _) hw rfl rfl (Nat.le_of_ble_eq_true rfl) dX0_readValue_5 (fun v9 h_3 hp => ?_) (fun q_4 h_5 hw ht9 => ?_)
  rotate_left
  · refine gx_any C [] ⟨0, 29, 36, 0⟩ [⟨36, 38, 36, 0⟩] (by rw [hTb]; rfl) (by decide) (by decide) rfl ht9 ?_
    refine GK.sub (lv' := [(0, .ref x0)]) [0] rfl ?_
    exact wk_X0_readValue_36 C hC9 S0 hret hXn hini hTb  _ _ _ hw
  clear hw
  obtain ⟨rfl, hw⟩ := hp
  refine GK.at (p2 := 8) rfl ?_
  refine gk_astore_n (pc := 8) (lv' := [(1, Value.ref a_2), (0, Value.ref x0)]) C.1 dX0_readValue_8 rfl (by rw [hXn]; decide) (by first | rfl | simp [va_rf_S, va_rf_cat, cat_i, cat_a, cat_l, cat_f, fin4_0, fin4_1, fin4_2, fin4_3]) ?_
  refine gk_aload_n (pc := 9) C.1 0 dX0_readValue_9 rfl rfl ?_
  refine gk_iconst (pc := 10) (v := 0) C.1 dX0_readValue_10 (by decide) ?_
  refine gc_X0_116 (pc := 11) (As := [.int 0]) (rest := []) C hCl (Nat.le_refl _) hw rfl rfl (Nat.le_of_ble_eq_true rfl) dX0_readValue_11 (fun v9 h_6 hp => ?_) (fun q_8 h_9 hw ht9 => ?_)
  rotate_left
  · refine gx_any C [] ⟨0, 29, 36, 0⟩ [⟨36, 38, 36, 0⟩] (by rw [hTb]; rfl) (by decide) (by decide) rfl ht9 ?_
    refine GK.sub (lv' := [(0, .ref x0)]) [1] rfl ?_
    exact wk_X0_readValue_36 C hC9 S0 hret hXn hini hTb  _ _ _ hw
  clear hw
  obtain ⟨r_7, rfl, hw⟩ := hp
  refine GK.at (p2 := 14) rfl ?_
  refine gk_qstore_n (pc := 14) (lv' := [(2, va_rf r_7), (1, Value.ref a_2), (0, Value.ref x0)]) C.1 dX0_readValue_14 rfl (by rw [hXn]; decide) (by first | rfl | simp [va_rf_S, va_rf_cat, cat_i, cat_a, cat_l, cat_f, fin4_0, fin4_1, fin4_2, fin4_3]) ?_
  refine gk_aload_n (pc := 15) C.1 1 dX0_readValue_15 rfl rfl ?_
  refine gc_X0_120 (pc := 16) (As := []) (rest := []) C hCl (Nat.le_refl _) hw rfl rfl (Nat.le_of_ble_eq_true rfl) dX0_readValue_16 (fun v9 h_10 hp => ?_) (fun q_11 h_12 hw ht9 => ?_)
  rotate_left
  · refine gx_any C [] ⟨0, 29, 36, 0⟩ [⟨36, 38, 36, 0⟩] (by rw [hTb]; rfl) (by decide) (by decide) rfl ht9 ?_
    refine GK.sub (lv' := [(0, .ref x0)]) [2] rfl ?_
    exact wk_X0_readValue_36 C hC9 S0 hret hXn hini hTb  _ _ _ hw
  clear hw
  obtain ⟨rfl, hw⟩ := hp
  refine GK.at (p2 := 19) rfl ?_
  refine gk_aload_n (pc := 19) C.1 2 dX0_readValue_19 rfl rfl ?_
  refine gk_qload_n (pc := 20) C.1 0 dX0_readValue_20 rfl rfl ?_
  obtain ⟨ht, hw⟩ := hw
  refine gfp_X0_66 (pc := 21) (r := r_7) C ht dX0_readValue_21 (fun h_13 eh_13 => ?_)
  replace hw := hw h_13 eh_13
  refine gk_qload_n (pc := 24) C.1 0 dX0_readValue_24 rfl rfl ?_
  obtain ⟨a_14, rfl, hw⟩ := hw
  refine gc_X0_54 (pc := 25) (As := []) (rest := []) C hCl (Nat.le_refl _) hw rfl rfl (Nat.le_of_ble_eq_true rfl) dX0_readValue_25 (fun v9 h_15 hp => ?_) (fun q_17 h_18 hw ht9 => ?_)
  rotate_left
  · refine gx_any C [] ⟨0, 29, 36, 0⟩ [⟨36, 38, 36, 0⟩] (by rw [hTb]; rfl) (by decide) (by decide) rfl ht9 ?_
    refine GK.sub (lv' := [(0, .ref x0)]) [2] rfl ?_
    exact wk_X0_readValue_36 C hC9 S0 hret hXn hini hTb  _ _ _ hw
  clear hw
  obtain ⟨r_16, rfl, hw⟩ := hp
  refine GK.at (p2 := 28) rfl ?_
  refine gk_istore_n (pc := 28) (lv' := [(3, Value.int r_16), (2, Value.ref a_14), (1, Value.ref a_2), (0, Value.ref x0)]) C.1 dX0_readValue_28 rfl (by rw [hXn]; decide) (by first | rfl | simp [va_rf_S, va_rf_cat, cat_i, cat_a, cat_l, cat_f, fin4_0, fin4_1, fin4_2, fin4_3]) ?_
  refine gk_aload_n (pc := 29) C.1 3 dX0_readValue_29 rfl rfl ?_
  refine gk_iconst (pc := 30) (v := 0) C.1 dX0_readValue_30 (by decide) ?_
  obtain ⟨ht, hw⟩ := hw
  refine gfp_X0_123 (pc := 31) C ht dX0_readValue_31 (fun h_19 eh_19 => ?_)
  replace hw := hw h_19 eh_19
  refine gk_iload_n (pc := 34) C.1 0 dX0_readValue_34 rfl rfl ?_
  exact gh_iret (pc := 35) C S0 hret dX0_readValue_35 hw
/-! 128: GathersAllFaults.refuse(I)I -/
def wb_X0_refuse (cl : CT) (lm : Nat × Nat) (Q : QT) (E : ET) (x0 : Nat) (x1 : Int32) (h : HS) : Prop := ((x1 ≤ (-20) → (Q (some (.int x1)) h)) ∧ (¬ x1 ≤ (-20) → ((hT h x0 = 1) ∧ (∀ r_2 : Option Nat, r_2 = hR h 9 x0 → (∃ a_3 : Nat, r_2 = some a_3 ∧ (hT h a_3 = 101 ∧ (vp_in (-x1) (hN h a_3) ∧ (hT h a_3 = 101 ∧ (vp_in (-x1) (hN h a_3) ∧ (∀ h_4 : HS, h_4 = sA h a_3 (-x1).toNatClampNeg ((hA h a_3 (-x1).toNatClampNeg) + 1) → (Q (some (.int x1)) h_4)))))))))))
theorem wx_X0_refuse {l : Launch} (hst : l.stackTraces = false) {G : GG} {cl : CT} {lm : Nat × Nat} {Q : QT} {E : ET} {d2 : Nat} (hCl : CallsOK l G d2 cl ∧ hLm G lm ∧ 8 ≤ d2 ∧ LamsOK l G d2 cl) {x0 : Nat} {x1 : Int32} {h : HS} (hw : wb_X0_refuse cl lm Q E x0 x1 h) : HMet l G yX0_refuse (ws_ yX0_refuse cX0_refuse 2 ((Option.some Jvm.ClassFile.FieldType.int))) (d2 + 1) [.ref x0, .int x1] h Q E := by
  refine gh_met (own := RX0) rfl (by decide +kernel) hst (by simp only [lg_sl_i, lg_sl_r, lg_sl_a, lg_sl_2, lg_sl_f, lg_sl_0]; decide) (fun X hXl hXn hret hnm hTb h0 eh C S0 => ?_)
  subst hXl
  have hlm := hCl.2.1
  have hd8 := hCl.2.2.1
  have hd2 : 1 ≤ d2 := Nat.le_trans (by decide) hd8
  have hLa := hCl.2.2.2
  have hd1 : 1 ≤ d2 + 1 := Nat.le_add_left _ _
  have hC9 := hCl
  replace hCl := hCl.1
  have hini : True := trivial
  unfold wb_X0_refuse at hw
  refine GK.sub (lv' := [(0, .ref x0), (1, .int x1)]) [0, 1] (by simp only [lv_args_i, lv_args_r, lv_args_a, lv_args_l, lv_args_f, lv_args_0]; rfl) ?_
  refine gk_iload_n (pc := 0) C.1 1 dX0_refuse_0 rfl rfl ?_
  refine gk_bipush (pc := 1) (v := (-20)) C.1 dX0_refuse_1 (by decide) ?_
  refine gk_icmp_le (pc := 3) (tgt := 17) C.1 dX0_refuse_3 (by decide) (fun c_1 => ?_) (fun c_1 => ?_)
  · replace hw := hw.1 c_1
    refine gk_iload_n (pc := 17) C.1 1 dX0_refuse_17 rfl rfl ?_
    exact gh_iret (pc := 18) C S0 hret dX0_refuse_18 hw
  · replace hw := hw.2 c_1
    refine gk_aload_n (pc := 6) C.1 0 dX0_refuse_6 rfl rfl ?_
    obtain ⟨ht, hw⟩ := hw
    refine gf_X0_85 (pc := 7) C ht dX0_refuse_7 (fun r_2 er_2 => ?_)
    replace hw := hw r_2 er_2
    refine gk_iload_n (pc := 10) C.1 1 dX0_refuse_10 rfl rfl ?_
    refine gk_ineg (pc := 11) C.1 dX0_refuse_11 ?_
    refine gk_dup2 (pc := 12) C.1 dX0_refuse_12 rfl (va_rf_cat _) ?_
    obtain ⟨a_3, rfl, hw⟩ := hw
    obtain ⟨ht, hi, hw⟩ := hw
    refine gh_iald (pc := 13) C ht hi dX0_refuse_13 ?_
    refine gk_iconst (pc := 14) (v := 1) C.1 dX0_refuse_14 (by decide) ?_
    refine gk_iadd (pc := 15) C.1 dX0_refuse_15 ?_
    obtain ⟨ht, hi, hw⟩ := hw
    refine gh_iast (pc := 16) C ht hi dX0_refuse_16 ?_
    obtain ⟨h_4, eh_4⟩ : ∃ z : HS, z = sA h a_3 (-x1).toNatClampNeg ((hA h a_3 (-x1).toNatClampNeg) + 1) := ⟨_, rfl⟩
    rw [← eh_4]
    replace hw := hw h_4 eh_4
    refine gk_iload_n (pc := 17) C.1 1 dX0_refuse_17 rfl rfl ?_
    exact gh_iret (pc := 18) C S0 hret dX0_refuse_18 hw
/-! 129: GathersAllFaults.row(I)I -/
def wb_X0_row (cl : CT) (lm : Nat × Nat) (Q : QT) (E : ET) (x0 : Nat) (x1 : Int32) (h : HS) : Prop := dp_GathersAllFaults_act cl x0 [.int 22, .int x1, .int 0, .int 0] h (gI (fun r_2 h_1 => Q (some (.int r_2)) h_1)) E
theorem wx_X0_row {l : Launch} (hst : l.stackTraces = false) {G : GG} {cl : CT} {lm : Nat × Nat} {Q : QT} {E : ET} {d2 : Nat} (hCl : CallsOK l G d2 cl ∧ hLm G lm ∧ 8 ≤ d2 ∧ LamsOK l G d2 cl) {x0 : Nat} {x1 : Int32} {h : HS} (hw : wb_X0_row cl lm Q E x0 x1 h) : HMet l G yX0_row (ws_ yX0_row cX0_row 2 ((Option.some Jvm.ClassFile.FieldType.int))) (d2 + 1) [.ref x0, .int x1] h Q E := by
  refine gh_met (own := RX0) rfl (by decide +kernel) hst (by simp only [lg_sl_i, lg_sl_r, lg_sl_a, lg_sl_2, lg_sl_f, lg_sl_0]; decide) (fun X hXl hXn hret hnm hTb h0 eh C S0 => ?_)
  subst hXl
  have hlm := hCl.2.1
  have hd8 := hCl.2.2.1
  have hd2 : 1 ≤ d2 := Nat.le_trans (by decide) hd8
  have hLa := hCl.2.2.2
  have hd1 : 1 ≤ d2 + 1 := Nat.le_add_left _ _
  have hC9 := hCl
  replace hCl := hCl.1
  have hini : True := trivial
  unfold wb_X0_row at hw
  refine GK.sub (lv' := [(0, .ref x0), (1, .int x1)]) [0, 1] (by simp only [lv_args_i, lv_args_r, lv_args_a, lv_args_l, lv_args_f, lv_args_0]; rfl) ?_
  refine gk_aload_n (pc := 0) C.1 0 dX0_row_0 rfl rfl ?_
  refine gk_bipush (pc := 1) (v := 22) C.1 dX0_row_1 (by decide) ?_
  refine gk_iload_n (pc := 3) C.1 1 dX0_row_3 rfl rfl ?_
  refine gk_iconst (pc := 4) (v := 0) C.1 dX0_row_4 (by decide) ?_
  refine gk_iconst (pc := 5) (v := 0) C.1 dX0_row_5 (by decide) ?_
  refine gc_X0_455 (pc := 6) (As := [.int 22, .int x1, .int 0, .int 0]) (rest := []) C hCl (Nat.le_refl _) hw rfl rfl (Nat.le_of_ble_eq_true rfl) dX0_row_6 (fun v9 h_1 hp => ?_) (fun q_3 h_4 hw ht9 => ?_)
  rotate_left
  · exact gx_out C S0 (by rw [hTb]; decide) ht9 hw
  clear hw
  obtain ⟨r_2, rfl, hw⟩ := hp
  refine GK.at (p2 := 9) rfl ?_
  exact gh_iret (pc := 9) C S0 hret dX0_row_9 hw
/-! 130: GathersAllFaults.rowIt(I)I -/
def wb_X0_rowIt_23 (cl : CT) (lm : Nat × Nat) (Q : QT) (E : ET) (x0 : Nat) (x1 : Int32) (s0 : Int32) (h : HS) : Prop := cl 104 [.int s0, .int (-6)] h (gV (fun h_1 => (hT h_1 x0 = 1) ∧ (∀ r_4 : Option Nat, r_4 = hR h_1 5 x0 → ((hT h_1 x0 = 1) ∧ (∃ a_5 : Nat, r_4 = some a_5 ∧ (hT h_1 a_5 = 102 ∧ (vp_in (hI h_1 6 x0) (hN h_1 a_5) ∧ (∀ h_6 : HS, h_6 = sA h_1 a_5 (hI h_1 6 x0).toNatClampNeg (vp_nar .byte ((x1).toInt8.toInt32)) → ((hT h_6 x0 = 1) ∧ ((hT h_6 x0 = 1) ∧ (∀ h_7 : HS, h_7 = sI h_6 6 x0 ((hI h_6 6 x0) + 1) → ((hT h_7 x0 = 1) ∧ (Q (some (.int (hI h_7 6 x0))) h_7))))))))))))) E
theorem wk_X0_rowIt_23 {X : Ev} {G : GG} {cl : CT} {lm : Nat × Nat} {Q : QT} {E : ET} {h0 : HS} {d2 : Nat} (C : HC X G RX0 cX0_rowIt (d2 + 1)) (hCl : CallsOK (ev_l X) G d2 cl ∧ hLm G lm ∧ 8 ≤ d2 ∧ LamsOK (ev_l X) G d2 cl) (S0 : HS0 X h0) (hret : (ev_h X).sig.returnType = (Option.some Jvm.ClassFile.FieldType.int)) (hXn : ev_n X = 2) (hini : True) (hTb : (ev_c X).exceptionTable.toList = []) : ∀ (x0 : Nat) (x1 : Int32) (s0 : Int32) (h : HS), wb_X0_rowIt_23 cl lm Q E x0 x1 s0 h → GH X G h (hQ X G h0 Q E) 23 [(0, .ref x0), (1, .int x1)] [.int s0] := by
  have hlm := hCl.2.1
  have hd8 := hCl.2.2.1
  have hd2 : 1 ≤ d2 := Nat.le_trans (by decide) hd8
  have hLa := hCl.2.2.2
  have hd1 : 1 ≤ d2 + 1 := Nat.le_add_left _ _
  have hC9 := hCl
  replace hCl := hCl.1
  intro x0 x1 s0 h hw
  unfold wb_X0_rowIt_23 at hw
  refine gk_bipush (pc := 23) (v := (-6)) C.1 dX0_rowIt_23 (by decide) ?_
  refine gc_X0_9 (pc := 25) (As := [.int s0, .int (-6)]) (rest := []) C hCl (Nat.le_refl _) hw rfl rfl (Nat.le_of_ble_eq_true rfl) dX0_rowIt_25 (fun v9 h_1 hp => ?_) (fun q_2 h_3 hw ht9 => ?_)
  rotate_left
  · exact gx_out C S0 (by rw [hTb]; decide) ht9 hw
  clear hw
  obtain ⟨rfl, hw⟩ := hp
  refine GK.at (p2 := 28) rfl ?_
  refine gk_aload_n (pc := 28) C.1 0 dX0_rowIt_28 rfl rfl ?_
  obtain ⟨ht, hw⟩ := hw
  refine gf_X0_77 (pc := 29) C ht dX0_rowIt_29 (fun r_4 er_4 => ?_)
  replace hw := hw r_4 er_4
  refine gk_aload_n (pc := 32) C.1 0 dX0_rowIt_32 rfl rfl ?_
  obtain ⟨ht, hw⟩ := hw
  refine gf_X0_301 (pc := 33) C ht dX0_rowIt_33 ?_
  refine gk_iload_n (pc := 36) C.1 1 dX0_rowIt_36 rfl rfl ?_
  refine gk_i2b (pc := 37) C.1 dX0_rowIt_37 ?_
  obtain ⟨a_5, rfl, hw⟩ := hw
  obtain ⟨ht, hi, hw⟩ := hw
  refine gh_bast (pc := 38) C ht hi dX0_rowIt_38 ?_
  obtain ⟨h_6, eh_6⟩ : ∃ z : HS, z = sA h_1 a_5 (hI h_1 6 x0).toNatClampNeg (vp_nar .byte ((x1).toInt8.toInt32)) := ⟨_, rfl⟩
  rw [← eh_6]
  replace hw := hw h_6 eh_6
  refine gk_aload_n (pc := 39) C.1 0 dX0_rowIt_39 rfl rfl ?_
  refine gk_dup (pc := 40) C.1 dX0_rowIt_40 rfl ?_
  obtain ⟨ht, hw⟩ := hw
  refine gf_X0_301 (pc := 41) C ht dX0_rowIt_41 ?_
  refine gk_iconst (pc := 44) (v := 1) C.1 dX0_rowIt_44 (by decide) ?_
  refine gk_iadd (pc := 45) C.1 dX0_rowIt_45 ?_
  obtain ⟨ht, hw⟩ := hw
  refine gfp_X0_301 (pc := 46) C ht dX0_rowIt_46 (fun h_7 eh_7 => ?_)
  replace hw := hw h_7 eh_7
  refine gk_aload_n (pc := 49) C.1 0 dX0_rowIt_49 rfl rfl ?_
  obtain ⟨ht, hw⟩ := hw
  refine gf_X0_301 (pc := 50) C ht dX0_rowIt_50 ?_
  exact gh_iret (pc := 53) C S0 hret dX0_rowIt_53 hw
def wb_X0_rowIt (cl : CT) (lm : Nat × Nat) (Q : QT) (E : ET) (x0 : Nat) (x1 : Int32) (h : HS) : Prop := cl 141 [.long ((x1 : Int32).toInt64), .long 0, .long 99] h (gV (fun h_1 => (hT h_1 x0 = 1) ∧ (((32 ≤ (hI h_1 6 x0) → (wb_X0_rowIt_23 cl lm Q E x0 x1 0 h_1)) ∧ (¬ 32 ≤ (hI h_1 6 x0) → (wb_X0_rowIt_23 cl lm Q E x0 x1 1 h_1)))))) E
theorem wx_X0_rowIt {l : Launch} (hst : l.stackTraces = false) {G : GG} {cl : CT} {lm : Nat × Nat} {Q : QT} {E : ET} {d2 : Nat} (hCl : CallsOK l G d2 cl ∧ hLm G lm ∧ 8 ≤ d2 ∧ LamsOK l G d2 cl) {x0 : Nat} {x1 : Int32} {h : HS} (hw : wb_X0_rowIt cl lm Q E x0 x1 h) : HMet l G yX0_rowIt (ws_ yX0_rowIt cX0_rowIt 2 ((Option.some Jvm.ClassFile.FieldType.int))) (d2 + 1) [.ref x0, .int x1] h Q E := by
  refine gh_met (own := RX0) rfl (by decide +kernel) hst (by simp only [lg_sl_i, lg_sl_r, lg_sl_a, lg_sl_2, lg_sl_f, lg_sl_0]; decide) (fun X hXl hXn hret hnm hTb h0 eh C S0 => ?_)
  subst hXl
  have hlm := hCl.2.1
  have hd8 := hCl.2.2.1
  have hd2 : 1 ≤ d2 := Nat.le_trans (by decide) hd8
  have hLa := hCl.2.2.2
  have hd1 : 1 ≤ d2 + 1 := Nat.le_add_left _ _
  have hC9 := hCl
  replace hCl := hCl.1
  have hini : True := trivial
  unfold wb_X0_rowIt at hw
  refine GK.sub (lv' := [(0, .ref x0), (1, .int x1)]) [0, 1] (by simp only [lv_args_i, lv_args_r, lv_args_a, lv_args_l, lv_args_f, lv_args_0]; rfl) ?_
  refine gk_iload_n (pc := 0) C.1 1 dX0_rowIt_0 rfl rfl ?_
  refine gk_i2l (pc := 1) C.1 dX0_rowIt_1 ?_
  refine gk_lconst (pc := 2) (v := 0) C.1 dX0_rowIt_2 (by decide) ?_
  refine gk_ldc2 (pc := 3) (v := 99) C.1 q1673 dX0_rowIt_3 ?_
  refine gc_X0_184 (pc := 6) (As := [.long ((x1 : Int32).toInt64), .long 0, .long 99]) (rest := []) C hCl (Nat.le_refl _) hw rfl rfl (Nat.le_of_ble_eq_true rfl) dX0_rowIt_6 (fun v9 h_1 hp => ?_) (fun q_2 h_3 hw ht9 => ?_)
  rotate_left
  · exact gx_out C S0 (by rw [hTb]; decide) ht9 hw
  clear hw
  obtain ⟨rfl, hw⟩ := hp
  refine GK.at (p2 := 9) rfl ?_
  refine gk_aload_n (pc := 9) C.1 0 dX0_rowIt_9 rfl rfl ?_
  obtain ⟨ht, hw⟩ := hw
  refine gf_X0_301 (pc := 10) C ht dX0_rowIt_10 ?_
  refine gk_bipush (pc := 13) (v := 32) C.1 dX0_rowIt_13 (by decide) ?_
  refine gk_icmp_ge (pc := 15) (tgt := 22) C.1 dX0_rowIt_15 (by decide) (fun c_4 => ?_) (fun c_4 => ?_)
  · replace hw := hw.1 c_4
    refine gk_iconst (pc := 22) (v := 0) C.1 dX0_rowIt_22 (by decide) ?_
    refine GK.sub (lv' := [(0, .ref x0), (1, .int x1)]) [0, 1] rfl ?_
    exact wk_X0_rowIt_23 C hC9 S0 hret hXn hini hTb  _ _ _ _ hw
  · replace hw := hw.2 c_4
    refine gk_iconst (pc := 18) (v := 1) C.1 dX0_rowIt_18 (by decide) ?_
    refine gk_goto (pc := 19) (tgt := 23) C.1 dX0_rowIt_19 (by decide) ?_
    refine GK.sub (lv' := [(0, .ref x0), (1, .int x1)]) [0, 1] rfl ?_
    exact wk_X0_rowIt_23 C hC9 S0 hret hXn hini hTb  _ _ _ _ hw
/-! 131: GathersAllFaults.same(II)I -/
def wb_X0_same (cl : CT) (lm : Nat × Nat) (Q : QT) (E : ET) (x0 : Nat) (x1 : Int32) (x2 : Int32) (h : HS) : Prop := dp_GathersAllFaults_act cl x0 [.int 15, .int x1, .int x2, .int 0] h (gI (fun r_2 h_1 => Q (some (.int r_2)) h_1)) E
theorem wx_X0_same {l : Launch} (hst : l.stackTraces = false) {G : GG} {cl : CT} {lm : Nat × Nat} {Q : QT} {E : ET} {d2 : Nat} (hCl : CallsOK l G d2 cl ∧ hLm G lm ∧ 8 ≤ d2 ∧ LamsOK l G d2 cl) {x0 : Nat} {x1 : Int32} {x2 : Int32} {h : HS} (hw : wb_X0_same cl lm Q E x0 x1 x2 h) : HMet l G yX0_same (ws_ yX0_same cX0_same 3 ((Option.some Jvm.ClassFile.FieldType.int))) (d2 + 1) [.ref x0, .int x1, .int x2] h Q E := by
  refine gh_met (own := RX0) rfl (by decide +kernel) hst (by simp only [lg_sl_i, lg_sl_r, lg_sl_a, lg_sl_2, lg_sl_f, lg_sl_0]; decide) (fun X hXl hXn hret hnm hTb h0 eh C S0 => ?_)
  subst hXl
  have hlm := hCl.2.1
  have hd8 := hCl.2.2.1
  have hd2 : 1 ≤ d2 := Nat.le_trans (by decide) hd8
  have hLa := hCl.2.2.2
  have hd1 : 1 ≤ d2 + 1 := Nat.le_add_left _ _
  have hC9 := hCl
  replace hCl := hCl.1
  have hini : True := trivial
  unfold wb_X0_same at hw
  refine GK.sub (lv' := [(0, .ref x0), (1, .int x1), (2, .int x2)]) [0, 1, 2] (by simp only [lv_args_i, lv_args_r, lv_args_a, lv_args_l, lv_args_f, lv_args_0]; rfl) ?_
  refine gk_aload_n (pc := 0) C.1 0 dX0_same_0 rfl rfl ?_
  refine gk_bipush (pc := 1) (v := 15) C.1 dX0_same_1 (by decide) ?_
  refine gk_iload_n (pc := 3) C.1 1 dX0_same_3 rfl rfl ?_
  refine gk_iload_n (pc := 4) C.1 2 dX0_same_4 rfl rfl ?_
  refine gk_iconst (pc := 5) (v := 0) C.1 dX0_same_5 (by decide) ?_
  refine gc_X0_455 (pc := 6) (As := [.int 15, .int x1, .int x2, .int 0]) (rest := []) C hCl (Nat.le_refl _) hw rfl rfl (Nat.le_of_ble_eq_true rfl) dX0_same_6 (fun v9 h_1 hp => ?_) (fun q_3 h_4 hw ht9 => ?_)
  rotate_left
  · exact gx_out C S0 (by rw [hTb]; decide) ht9 hw
  clear hw
  obtain ⟨r_2, rfl, hw⟩ := hp
  refine GK.at (p2 := 9) rfl ?_
  exact gh_iret (pc := 9) C S0 hret dX0_same_9 hw
/-! 132: GathersAllFaults.sameTold(II)I -/
def wb_X0_sameTold (cl : CT) (lm : Nat × Nat) (Q : QT) (E : ET) (x0 : Nat) (x1 : Int32) (x2 : Int32) (h : HS) : Prop := dp_GathersAllFaults_at cl x0 [.int x1] h (gR (fun r_2 h_1 => dp_GathersAllFaults_at cl x0 [.int x2] h_1 (gR (fun r_6 h_5 => ∃ a_9 : Nat, r_2 = some a_9 ∧ (dp_Value_equals cl a_9 [va_rf r_6] h_5 (gI (fun r_11 h_10 => ((r_11 = 0 → (Q (some (.int 0)) h_10)) ∧ (¬ r_11 = 0 → (Q (some (.int 1)) h_10))))) E))) E)) E
theorem wx_X0_sameTold {l : Launch} (hst : l.stackTraces = false) {G : GG} {cl : CT} {lm : Nat × Nat} {Q : QT} {E : ET} {d2 : Nat} (hCl : CallsOK l G d2 cl ∧ hLm G lm ∧ 8 ≤ d2 ∧ LamsOK l G d2 cl) {x0 : Nat} {x1 : Int32} {x2 : Int32} {h : HS} (hw : wb_X0_sameTold cl lm Q E x0 x1 x2 h) : HMet l G yX0_sameTold (ws_ yX0_sameTold cX0_sameTold 4 ((Option.some Jvm.ClassFile.FieldType.int))) (d2 + 1) [.ref x0, .int x1, .int x2] h Q E := by
  refine gh_met (own := RX0) rfl (by decide +kernel) hst (by simp only [lg_sl_i, lg_sl_r, lg_sl_a, lg_sl_2, lg_sl_f, lg_sl_0]; decide) (fun X hXl hXn hret hnm hTb h0 eh C S0 => ?_)
  subst hXl
  have hlm := hCl.2.1
  have hd8 := hCl.2.2.1
  have hd2 : 1 ≤ d2 := Nat.le_trans (by decide) hd8
  have hLa := hCl.2.2.2
  have hd1 : 1 ≤ d2 + 1 := Nat.le_add_left _ _
  have hC9 := hCl
  replace hCl := hCl.1
  have hini : True := trivial
  unfold wb_X0_sameTold at hw
  refine GK.sub (lv' := [(0, .ref x0), (1, .int x1), (2, .int x2)]) [0, 1, 2] (by simp only [lv_args_i, lv_args_r, lv_args_a, lv_args_l, lv_args_f, lv_args_0]; rfl) ?_
  refine gk_aload_n (pc := 0) C.1 0 dX0_sameTold_0 rfl rfl ?_
  refine gk_iload_n (pc := 1) C.1 1 dX0_sameTold_1 rfl rfl ?_
  refine gc_X0_173 (pc := 2) (As := [.int x1]) (rest := []) C hCl (Nat.le_refl _) hw rfl rfl (Nat.le_of_ble_eq_true rfl) dX0_sameTold_2 (fun v9 h_1 hp => ?_) (fun q_3 h_4 hw ht9 => ?_)
  rotate_left
  · exact gx_out C S0 (by rw [hTb]; decide) ht9 hw
  clear hw
  obtain ⟨r_2, rfl, hw⟩ := hp
  refine GK.at (p2 := 5) rfl ?_
  refine gk_qstore_n (pc := 5) (lv' := [(3, va_rf r_2), (0, Value.ref x0), (1, Value.int x1), (2, Value.int x2)]) C.1 dX0_sameTold_5 rfl (by rw [hXn]; decide) (by first | rfl | simp [va_rf_S, va_rf_cat, cat_i, cat_a, cat_l, cat_f, fin4_0, fin4_1, fin4_2, fin4_3]) ?_
  refine gk_qload_n (pc := 6) C.1 0 dX0_sameTold_6 rfl rfl ?_
  refine gk_aload_n (pc := 7) C.1 1 dX0_sameTold_7 rfl rfl ?_
  refine gk_iload_n (pc := 8) C.1 3 dX0_sameTold_8 rfl rfl ?_
  refine gc_X0_173 (pc := 9) (As := [.int x2]) (rest := [va_rf r_2]) C hCl (Nat.le_refl _) hw rfl rfl (by simp [va_rf_S, va_rf_cat, cat_i, cat_a, cat_l, cat_f, fin4_0, fin4_1, fin4_2, fin4_3]) dX0_sameTold_9 (fun v9 h_5 hp => ?_) (fun q_7 h_8 hw ht9 => ?_)
  rotate_left
  · exact gx_out C S0 (by rw [hTb]; decide) ht9 hw
  clear hw
  obtain ⟨r_6, rfl, hw⟩ := hp
  refine GK.at (p2 := 12) rfl ?_
  obtain ⟨a_9, rfl, hw⟩ := hw
  refine gc_X0_357 (pc := 12) (As := [va_rf r_6]) (rest := []) C hCl (Nat.le_refl _) hw rfl rfl (Nat.le_of_ble_eq_true rfl) dX0_sameTold_12 (fun v9 h_10 hp => ?_) (fun q_12 h_13 hw ht9 => ?_)
  rotate_left
  · exact gx_out C S0 (by rw [hTb]; decide) ht9 hw
  clear hw
  obtain ⟨r_11, rfl, hw⟩ := hp
  refine GK.at (p2 := 15) rfl ?_
  refine gk_if_eq (pc := 15) (tgt := 22) C.1 dX0_sameTold_15 (by decide) (fun c_14 => ?_) (fun c_14 => ?_)
  · replace hw := hw.1 c_14
    refine gk_iconst (pc := 22) (v := 0) C.1 dX0_sameTold_22 (by decide) ?_
    exact gh_iret (pc := 23) C S0 hret dX0_sameTold_23 hw
  · replace hw := hw.2 c_14
    refine gk_iconst (pc := 18) (v := 1) C.1 dX0_sameTold_18 (by decide) ?_
    refine gk_goto (pc := 19) (tgt := 23) C.1 dX0_sameTold_19 (by decide) ?_
    exact gh_iret (pc := 23) C S0 hret dX0_sameTold_23 hw
/-! 133: GathersAllFaults.swap(ILGathersAllFaults$Value;)LGathersAllFaults$Value; -/
def wb_X0_swap_40 (cl : CT) (lm : Nat × Nat) (Q : QT) (E : ET) : Nat → Int32 → Option Nat → Int32 → Option Nat → HS → Prop
  | 0 => fun _ _ _ _ _ => False
  | n + 1 => fun x1 x2 x3 x4 h => ((x3 ≤ 1 → (∀ x_2 : Int32, x_2 = x1 - x1 / 10 * 10 → (∃ a_3 : Nat, x4 = some a_3 ∧ (dp_Value_step cl a_3 [.int x_2] h (gR (fun r_5 h_4 => ((hT h_4 a_3 = 4) ∧ (ck_GathersAllFaults_Rec h_4 (some a_3) ∧ ((hT h_4 a_3 = 4) ∧ (∀ r_9 : Option Nat, r_9 = hR h_4 18 a_3 → (¬ x_2 < (-128) ∧ (¬ 127 < x_2 ∧ (∀ a_10 : Nat, hT h_4 a_10 = 300 → hI h_4 fINT a_10 = x_2 → (∃ a_11 : Nat, r_9 = some a_11 ∧ (dp_LinkedHashMap_put cl a_11 [.ref a_10, va_rf x2] h_4 (gR (fun r_13 h_12 => Q (some (va_rf r_5)) h_12)) E))))))))) ∨ ((hT h_4 a_3 = 2 ∨ hT h_4 a_3 = 3 ∨ hT h_4 a_3 = 5 ∨ hT h_4 a_3 = 300) ∧ (((hT h_4 a_3 = 5) ∧ (ck_GathersAllFaults_Lst h_4 (some a_3) ∧ ((hT h_4 a_3 = 5) ∧ (∀ r_17 : Option Nat, r_17 = hR h_4 20 a_3 → (∃ a_18 : Nat, r_17 = some a_18 ∧ (hT h_4 a_18 = 114 ∧ (vp_in ((x_2 - 1) - 5) (hN h_4 a_18) ∧ (as_X1 h_4 x2 ∧ (∀ h_19 : HS, h_19 = sB h_4 a_18 ((x_2 - 1) - 5).toNatClampNeg x2 → (Q (some (va_rf r_5)) h_19)))))))))) ∨ ((hT h_4 a_3 = 2 ∨ hT h_4 a_3 = 3 ∨ hT h_4 a_3 = 4 ∨ hT h_4 a_3 = 300) ∧ (Q (some (va_rf r_5)) h_4)))))) E)))) ∧ (¬ x3 ≤ 1 → (¬ x3 = 0 ∧ (∃ a_20 : Nat, x4 = some a_20 ∧ (dp_Value_step cl a_20 [.int ((x1 / x3) - (x1 / x3) / 10 * 10)] h (gR (fun r_22 h_21 => ∀ x_25 : Int32, x_25 = x3 / 10 → (wb_X0_swap_40 cl lm Q E n x1 x2 x_25 r_22 h_21))) E)))))
theorem wk_X0_swap_40 {X : Ev} {G : GG} {cl : CT} {lm : Nat × Nat} {Q : QT} {E : ET} {h0 : HS} {d2 : Nat} (C : HC X G RX0 cX0_swap (d2 + 1)) (hCl : CallsOK (ev_l X) G d2 cl ∧ hLm G lm ∧ 8 ≤ d2 ∧ LamsOK (ev_l X) G d2 cl) (S0 : HS0 X h0) (hret : (ev_h X).sig.returnType = (Option.some (Jvm.ClassFile.FieldType.object "GathersAllFaults$Value"))) (hXn : ev_n X = 9) (hini : True) (hTb : (ev_c X).exceptionTable.toList = []) : ∀ (n : Nat) (x1 : Int32) (x2 : Option Nat) (x3 : Int32) (x4 : Option Nat) (h : HS), wb_X0_swap_40 cl lm Q E n x1 x2 x3 x4 h → GH X G h (hQ X G h0 Q E) 40 [(1, .int x1), (2, va_rf x2), (3, .int x3), (4, va_rf x4)] [] := by
  have hlm := hCl.2.1
  have hd8 := hCl.2.2.1
  have hd2 : 1 ≤ d2 := Nat.le_trans (by decide) hd8
  have hLa := hCl.2.2.2
  have hd1 : 1 ≤ d2 + 1 := Nat.le_add_left _ _
  have hC9 := hCl
  replace hCl := hCl.1
  intro n
  induction n with
  | zero => intro x1 x2 x3 x4 h hw; exact hw.elim
  | succ n ih =>
  intro x1 x2 x3 x4 h hw
  unfold wb_X0_swap_40 at hw
  refine gk_iload_n (pc := 40) C.1 2 dX0_swap_40 rfl rfl ?_
  refine gk_iconst (pc := 41) (v := 1) C.1 dX0_swap_41 (by decide) ?_
  refine gk_icmp_le (pc := 42) (tgt := 66) C.1 dX0_swap_42 (by decide) (fun c_1 => ?_) (fun c_1 => ?_)
  · replace hw := hw.1 c_1
    refine gk_iload_n (pc := 66) C.1 0 dX0_swap_66 rfl rfl ?_
    refine gk_bipush (pc := 67) (v := 10) C.1 dX0_swap_67 (by decide) ?_
    refine gk_irem (pc := 69) C.1 dX0_swap_69 (by decide) ?_
    obtain ⟨x_2, ex_2⟩ : ∃ z : Int32, z = x1 - x1 / 10 * 10 := ⟨_, rfl⟩
    rw [← ex_2]
    replace hw := hw x_2 ex_2
    refine gk_istore (pc := 70) (lv' := [(5, Value.int x_2), (1, Value.int x1), (2, va_rf x2), (3, Value.int x3), (4, va_rf x4)]) C.1 dX0_swap_70 (by rw [hXn]; decide) (by first | rfl | simp [va_rf_S, va_rf_cat, cat_i, cat_a, cat_l, cat_f, fin4_0, fin4_1, fin4_2, fin4_3]) ?_
    refine gk_qload (pc := 72) C.1 4 dX0_swap_72 rfl ?_
    refine gk_iload (pc := 74) C.1 0 dX0_swap_74 rfl ?_
    obtain ⟨a_3, rfl, hw⟩ := hw
    refine gc_X0_162 (pc := 76) (As := [.int x_2]) (rest := []) C hCl (Nat.le_refl _) hw rfl rfl (Nat.le_of_ble_eq_true rfl) dX0_swap_76 (fun v9 h_4 hp => ?_) (fun q_6 h_7 hw ht9 => ?_)
    rotate_left
    · exact gx_out C S0 (by rw [hTb]; decide) ht9 hw
    clear hw
    obtain ⟨r_5, rfl, hw⟩ := hp
    refine GK.at (p2 := 79) rfl ?_
    refine gk_qstore (pc := 79) (lv' := [(6, va_rf r_5), (5, Value.int x_2), (1, Value.int x1), (2, va_rf x2), (3, Value.int x3), (4, Value.ref a_3)]) C.1 dX0_swap_79 (by rw [hXn]; decide) (by first | rfl | simp [va_rf_S, va_rf_cat, cat_i, cat_a, cat_l, cat_f, fin4_0, fin4_1, fin4_2, fin4_3]) ?_
    refine gk_aload (pc := 81) C.1 5 dX0_swap_81 rfl ?_
    rcases hw with ⟨hs, hw⟩ | ⟨hs, hw⟩
    · refine gi_X0_196_y (pc := 83) C hs dX0_swap_83 ?_
      refine gk_if_eq (pc := 86) (tgt := 114) C.1 dX0_swap_86 (by decide) (fun c9 => ?_) (fun c9 => ?_)
      · exact absurd c9 (by decide)
      refine gk_aload (pc := 89) C.1 5 dX0_swap_89 rfl ?_
      obtain ⟨hs, hw⟩ := hw
      refine gh_ckc (pc := 91) (r := (some a_3)) C q1873 (ck_GathersAllFaults_Rec_ok hs) dX0_swap_91 ?_
      refine gk_astore (pc := 94) (lv' := [(7, Value.ref a_3), (6, va_rf r_5), (5, Value.int x_2), (1, Value.int x1), (2, va_rf x2), (3, Value.int x3), (4, Value.ref a_3)]) C.1 dX0_swap_94 (by rw [hXn]; decide) (by first | rfl | simp [va_rf_S, va_rf_cat, cat_i, cat_a, cat_l, cat_f, fin4_0, fin4_1, fin4_2, fin4_3]) ?_
      refine gk_aload (pc := 96) C.1 0 dX0_swap_96 rfl ?_
      obtain ⟨ht, hw⟩ := hw
      refine gf_X0_198 (pc := 98) C ht dX0_swap_98 (fun r_9 er_9 => ?_)
      replace hw := hw r_9 er_9
      refine gk_iload (pc := 101) C.1 2 dX0_swap_101 rfl ?_
      obtain ⟨z1, z2, hw⟩ := hw
      refine gv_X0_202 (pc := 103) (rest := [va_rf r_9]) C hd2 z1 z2 (by simp [va_rf_S, va_rf_cat, cat_i, cat_a, cat_l, cat_f, fin4_0, fin4_1, fin4_2, fin4_3]) dX0_swap_103 (fun a_10 z3 z4 => ?_)
      replace hw := hw a_10 z3 z4
      refine gk_qload_n (pc := 106) C.1 4 dX0_swap_106 rfl rfl ?_
      obtain ⟨a_11, rfl, hw⟩ := hw
      refine gc_X0_208 (pc := 107) (As := [.ref a_10, va_rf x2]) (rest := []) C hCl (Nat.le_refl _) hw rfl rfl (Nat.le_of_ble_eq_true rfl) dX0_swap_107 (fun v9 h_12 hp => ?_) (fun q_14 h_15 hw ht9 => ?_)
      rotate_left
      · exact gx_out C S0 (by rw [hTb]; decide) ht9 hw
      clear hw
      obtain ⟨r_13, rfl, hw⟩ := hp
      refine GK.at (p2 := 110) rfl ?_
      refine gk_pop (pc := 110) C.1 dX0_swap_110 (va_rf_cat _) ?_
      refine gk_goto (pc := 111) (tgt := 142) C.1 dX0_swap_111 (by decide) ?_
      refine gk_qload (pc := 142) C.1 1 dX0_swap_142 rfl ?_
      exact gh_aret (pc := 144) (r := r_5) C S0 hret (Or.inl ⟨_, rfl⟩) dX0_swap_144 hw
    · refine gi_X0_196_n (pc := 83) (r := (some a_3)) C (fun z hz => by cases hz; exact hs) dX0_swap_83 ?_
      refine gk_if_eq (pc := 86) (tgt := 114) C.1 dX0_swap_86 (by decide) (fun c9 => ?_) (fun c9 => ?_)
      rotate_left
      · exact absurd rfl c9
      refine gk_aload (pc := 114) C.1 5 dX0_swap_114 rfl ?_
      rcases hw with ⟨hs, hw⟩ | ⟨hs, hw⟩
      · refine gi_X0_213_y (pc := 116) C hs dX0_swap_116 ?_
        refine gk_if_eq (pc := 119) (tgt := 142) C.1 dX0_swap_119 (by decide) (fun c9 => ?_) (fun c9 => ?_)
        · exact absurd c9 (by decide)
        refine gk_aload (pc := 122) C.1 5 dX0_swap_122 rfl ?_
        obtain ⟨hs, hw⟩ := hw
        refine gh_ckc (pc := 124) (r := (some a_3)) C q1546 (ck_GathersAllFaults_Lst_ok hs) dX0_swap_124 ?_
        refine gk_astore (pc := 127) (lv' := [(8, Value.ref a_3), (6, va_rf r_5), (5, Value.int x_2), (1, Value.int x1), (2, va_rf x2), (3, Value.int x3), (4, Value.ref a_3)]) C.1 dX0_swap_127 (by rw [hXn]; decide) (by first | rfl | simp [va_rf_S, va_rf_cat, cat_i, cat_a, cat_l, cat_f, fin4_0, fin4_1, fin4_2, fin4_3]) ?_
        refine gk_aload (pc := 129) C.1 0 dX0_swap_129 rfl ?_
        obtain ⟨ht, hw⟩ := hw
        refine gf_X0_215 (pc := 131) C ht dX0_swap_131 (fun r_17 er_17 => ?_)
        replace hw := hw r_17 er_17
        refine gk_iload (pc := 134) C.1 2 dX0_swap_134 rfl ?_
        refine gk_iconst (pc := 136) (v := 1) C.1 dX0_swap_136 (by decide) ?_
        refine gk_isub (pc := 137) C.1 dX0_swap_137 ?_
        refine gk_iconst (pc := 138) (v := 5) C.1 dX0_swap_138 (by decide) ?_
        refine gk_isub (pc := 139) C.1 dX0_swap_139 ?_
        refine gk_qload_n (pc := 140) C.1 4 dX0_swap_140 rfl rfl ?_
        obtain ⟨a_18, rfl, hw⟩ := hw
        obtain ⟨ht, hi, hs, hw⟩ := hw
        refine gh_aast (pc := 141) (r := x2) (t0 := 6) (E := "GathersAllFaults$Value") C ht (by decide) (by decide) rfl (as_X1_ok hs) hi dX0_swap_141 ?_
        obtain ⟨h_19, eh_19⟩ : ∃ z : HS, z = sB h_4 a_18 ((x_2 - 1) - 5).toNatClampNeg x2 := ⟨_, rfl⟩
        rw [← eh_19]
        replace hw := hw h_19 eh_19
        refine gk_qload (pc := 142) C.1 1 dX0_swap_142 rfl ?_
        exact gh_aret (pc := 144) (r := r_5) C S0 hret (Or.inl ⟨_, rfl⟩) dX0_swap_144 hw
      · refine gi_X0_213_n (pc := 116) (r := (some a_3)) C (fun z hz => by cases hz; exact hs) dX0_swap_116 ?_
        refine gk_if_eq (pc := 119) (tgt := 142) C.1 dX0_swap_119 (by decide) (fun c9 => ?_) (fun c9 => ?_)
        rotate_left
        · exact absurd rfl c9
        refine gk_qload (pc := 142) C.1 0 dX0_swap_142 rfl ?_
        exact gh_aret (pc := 144) (r := r_5) C S0 hret (Or.inl ⟨_, rfl⟩) dX0_swap_144 hw
  · replace hw := hw.2 c_1
    refine gk_qload (pc := 45) C.1 3 dX0_swap_45 rfl ?_
    refine gk_iload_n (pc := 47) C.1 0 dX0_swap_47 rfl rfl ?_
    refine gk_iload_n (pc := 48) C.1 2 dX0_swap_48 rfl rfl ?_
    obtain ⟨hne, hw⟩ := hw
    refine gk_idiv (pc := 49) C.1 dX0_swap_49 hne ?_
    refine gk_bipush (pc := 50) (v := 10) C.1 dX0_swap_50 (by decide) ?_
    refine gk_irem (pc := 52) C.1 dX0_swap_52 (by decide) ?_
    obtain ⟨a_20, rfl, hw⟩ := hw
    refine gc_X0_162 (pc := 53) (As := [.int ((x1 / x3) - (x1 / x3) / 10 * 10)]) (rest := []) C hCl (Nat.le_refl _) hw rfl rfl (Nat.le_of_ble_eq_true rfl) dX0_swap_53 (fun v9 h_21 hp => ?_) (fun q_23 h_24 hw ht9 => ?_)
    rotate_left
    · exact gx_out C S0 (by rw [hTb]; decide) ht9 hw
    clear hw
    obtain ⟨r_22, rfl, hw⟩ := hp
    refine GK.at (p2 := 56) rfl ?_
    refine gk_qstore (pc := 56) (lv' := [(4, va_rf r_22), (1, Value.int x1), (2, va_rf x2), (3, Value.int x3)]) C.1 dX0_swap_56 (by rw [hXn]; decide) (by first | rfl | simp [va_rf_S, va_rf_cat, cat_i, cat_a, cat_l, cat_f, fin4_0, fin4_1, fin4_2, fin4_3]) ?_
    refine gk_iload_n (pc := 58) C.1 3 dX0_swap_58 rfl rfl ?_
    refine gk_bipush (pc := 59) (v := 10) C.1 dX0_swap_59 (by decide) ?_
    refine gk_idiv (pc := 61) C.1 dX0_swap_61 (by decide) ?_
    obtain ⟨x_25, ex_25⟩ : ∃ z : Int32, z = x3 / 10 := ⟨_, rfl⟩
    rw [← ex_25]
    replace hw := hw x_25 ex_25
    refine gk_istore_n (pc := 62) (lv' := [(3, Value.int x_25), (4, va_rf r_22), (1, Value.int x1), (2, va_rf x2)]) C.1 dX0_swap_62 rfl (by rw [hXn]; decide) (by first | rfl | simp [va_rf_S, va_rf_cat, cat_i, cat_a, cat_l, cat_f, fin4_0, fin4_1, fin4_2, fin4_3]) ?_
    refine gk_goto (pc := 63) (tgt := 40) C.1 dX0_swap_63 (by decide) ?_
    refine GK.sub (lv' := [(1, .int x1), (2, va_rf x2), (3, .int x_25), (4, va_rf r_22)]) [2, 3, 0, 1] rfl ?_
    exact ih _ _ _ _ _ hw
def wb_X0_swap_18 (cl : CT) (lm : Nat × Nat) (Q : QT) (E : ET) : Nat → Nat → Int32 → Option Nat → Int32 → HS → Prop
  | 0 => fun _ _ _ _ _ => False
  | n + 1 => fun x0 x1 x2 x3 h => ¬ x3 = 0 ∧ ((((x1 / x3) ≤ 9 → ((hT h x0 = 1) ∧ (∀ r_2 : Option Nat, r_2 = hR h 0 x0 → (∃ fu : Nat, wb_X0_swap_40 cl lm Q E fu x1 x2 x3 r_2 h)))) ∧ (¬ (x1 / x3) ≤ 9 → (∀ x_3 : Int32, x_3 = x3 * 10 → (wb_X0_swap_18 cl lm Q E n x0 x1 x2 x_3 h)))))
theorem wk_X0_swap_18 {X : Ev} {G : GG} {cl : CT} {lm : Nat × Nat} {Q : QT} {E : ET} {h0 : HS} {d2 : Nat} (C : HC X G RX0 cX0_swap (d2 + 1)) (hCl : CallsOK (ev_l X) G d2 cl ∧ hLm G lm ∧ 8 ≤ d2 ∧ LamsOK (ev_l X) G d2 cl) (S0 : HS0 X h0) (hret : (ev_h X).sig.returnType = (Option.some (Jvm.ClassFile.FieldType.object "GathersAllFaults$Value"))) (hXn : ev_n X = 9) (hini : True) (hTb : (ev_c X).exceptionTable.toList = []) : ∀ (n : Nat) (x0 : Nat) (x1 : Int32) (x2 : Option Nat) (x3 : Int32) (h : HS), wb_X0_swap_18 cl lm Q E n x0 x1 x2 x3 h → GH X G h (hQ X G h0 Q E) 18 [(0, .ref x0), (1, .int x1), (2, va_rf x2), (3, .int x3)] [] := by
  have hlm := hCl.2.1
  have hd8 := hCl.2.2.1
  have hd2 : 1 ≤ d2 := Nat.le_trans (by decide) hd8
  have hLa := hCl.2.2.2
  have hd1 : 1 ≤ d2 + 1 := Nat.le_add_left _ _
  have hC9 := hCl
  replace hCl := hCl.1
  intro n
  induction n with
  | zero => intro x0 x1 x2 x3 h hw; exact hw.elim
  | succ n ih =>
  intro x0 x1 x2 x3 h hw
  unfold wb_X0_swap_18 at hw
  refine gk_iload_n (pc := 18) C.1 1 dX0_swap_18 rfl rfl ?_
  refine gk_iload_n (pc := 19) C.1 3 dX0_swap_19 rfl rfl ?_
  obtain ⟨hne, hw⟩ := hw
  refine gk_idiv (pc := 20) C.1 dX0_swap_20 hne ?_
  refine gk_bipush (pc := 21) (v := 9) C.1 dX0_swap_21 (by decide) ?_
  refine gk_icmp_le (pc := 23) (tgt := 34) C.1 dX0_swap_23 (by decide) (fun c_1 => ?_) (fun c_1 => ?_)
  · replace hw := hw.1 c_1
    refine gk_aload_n (pc := 34) C.1 0 dX0_swap_34 rfl rfl ?_
    obtain ⟨ht, hw⟩ := hw
    refine gf_X0_66 (pc := 35) C ht dX0_swap_35 (fun r_2 er_2 => ?_)
    replace hw := hw r_2 er_2
    refine gk_qstore (pc := 38) (lv' := [(4, va_rf r_2), (0, Value.ref x0), (1, Value.int x1), (2, va_rf x2), (3, Value.int x3)]) C.1 dX0_swap_38 (by rw [hXn]; decide) (by first | rfl | simp [va_rf_S, va_rf_cat, cat_i, cat_a, cat_l, cat_f, fin4_0, fin4_1, fin4_2, fin4_3]) ?_
    refine GK.sub (lv' := [(1, .int x1), (2, va_rf x2), (3, .int x3), (4, va_rf r_2)]) [2, 3, 4, 0] rfl ?_
    obtain ⟨n9, hw⟩ := hw
    exact wk_X0_swap_40 C hC9 S0 hret hXn hini hTb  n9 _ _ _ _ _ hw
  · replace hw := hw.2 c_1
    refine gk_iload_n (pc := 26) C.1 3 dX0_swap_26 rfl rfl ?_
    refine gk_bipush (pc := 27) (v := 10) C.1 dX0_swap_27 (by decide) ?_
    refine gk_imul (pc := 29) C.1 dX0_swap_29 ?_
    obtain ⟨x_3, ex_3⟩ : ∃ z : Int32, z = x3 * 10 := ⟨_, rfl⟩
    rw [← ex_3]
    replace hw := hw x_3 ex_3
    refine gk_istore_n (pc := 30) (lv' := [(3, Value.int x_3), (0, Value.ref x0), (1, Value.int x1), (2, va_rf x2)]) C.1 dX0_swap_30 rfl (by rw [hXn]; decide) (by first | rfl | simp [va_rf_S, va_rf_cat, cat_i, cat_a, cat_l, cat_f, fin4_0, fin4_1, fin4_2, fin4_3]) ?_
    refine gk_goto (pc := 31) (tgt := 18) C.1 dX0_swap_31 (by decide) ?_
    refine GK.sub (lv' := [(0, .ref x0), (1, .int x1), (2, va_rf x2), (3, .int x_3)]) [1, 2, 3, 0] rfl ?_
    exact ih _ _ _ _ _ hw
def wb_X0_swap (cl : CT) (lm : Nat × Nat) (Q : QT) (E : ET) (x0 : Nat) (x1 : Int32) (x2 : Option Nat) (h : HS) : Prop := ((¬ x1 = 0 → (∃ fu : Nat, wb_X0_swap_18 cl lm Q E fu x0 x1 x2 1 h)) ∧ (x1 = 0 → ((hT h x0 = 1) ∧ (∀ r_2 : Option Nat, r_2 = hR h 0 x0 → ((hT h x0 = 1) ∧ (∀ h_3 : HS, h_3 = sR h 0 x0 x2 → (Q (some (va_rf r_2)) h_3)))))))
theorem wx_X0_swap {l : Launch} (hst : l.stackTraces = false) {G : GG} {cl : CT} {lm : Nat × Nat} {Q : QT} {E : ET} {d2 : Nat} (hCl : CallsOK l G d2 cl ∧ hLm G lm ∧ 8 ≤ d2 ∧ LamsOK l G d2 cl) {x0 : Nat} {x1 : Int32} {x2 : Option Nat} {h : HS} (hw : wb_X0_swap cl lm Q E x0 x1 x2 h) : HMet l G yX0_swap (ws_ yX0_swap cX0_swap 9 ((Option.some (Jvm.ClassFile.FieldType.object "GathersAllFaults$Value")))) (d2 + 1) [.ref x0, .int x1, va_rf x2] h Q E := by
  refine gh_met (own := RX0) rfl (by decide +kernel) hst (by simp only [lg_sl_i, lg_sl_r, lg_sl_a, lg_sl_2, lg_sl_f, lg_sl_0]; decide) (fun X hXl hXn hret hnm hTb h0 eh C S0 => ?_)
  subst hXl
  have hlm := hCl.2.1
  have hd8 := hCl.2.2.1
  have hd2 : 1 ≤ d2 := Nat.le_trans (by decide) hd8
  have hLa := hCl.2.2.2
  have hd1 : 1 ≤ d2 + 1 := Nat.le_add_left _ _
  have hC9 := hCl
  replace hCl := hCl.1
  have hini : True := trivial
  unfold wb_X0_swap at hw
  refine GK.sub (lv' := [(0, .ref x0), (1, .int x1), (2, va_rf x2)]) [0, 1, 2] (by simp only [lv_args_i, lv_args_r, lv_args_a, lv_args_l, lv_args_f, lv_args_0]; rfl) ?_
  refine gk_iload_n (pc := 0) C.1 1 dX0_swap_0 rfl rfl ?_
  refine gk_if_ne (pc := 1) (tgt := 16) C.1 dX0_swap_1 (by decide) (fun c_1 => ?_) (fun c_1 => ?_)
  · replace hw := hw.1 c_1
    refine gk_iconst (pc := 16) (v := 1) C.1 dX0_swap_16 (by decide) ?_
    refine gk_istore_n (pc := 17) (lv' := [(3, Value.int 1), (0, Value.ref x0), (1, Value.int x1), (2, va_rf x2)]) C.1 dX0_swap_17 rfl (by rw [hXn]; decide) (by first | rfl | simp [va_rf_S, va_rf_cat, cat_i, cat_a, cat_l, cat_f, fin4_0, fin4_1, fin4_2, fin4_3]) ?_
    refine GK.sub (lv' := [(0, .ref x0), (1, .int x1), (2, va_rf x2), (3, .int 1)]) [1, 2, 3, 0] rfl ?_
    obtain ⟨n9, hw⟩ := hw
    exact wk_X0_swap_18 C hC9 S0 hret hXn hini hTb  n9 _ _ _ _ _ hw
  · replace hw := hw.2 c_1
    refine gk_aload_n (pc := 4) C.1 0 dX0_swap_4 rfl rfl ?_
    obtain ⟨ht, hw⟩ := hw
    refine gf_X0_66 (pc := 5) C ht dX0_swap_5 (fun r_2 er_2 => ?_)
    replace hw := hw r_2 er_2
    refine gk_qstore_n (pc := 8) (lv' := [(3, va_rf r_2), (0, Value.ref x0), (1, Value.int x1), (2, va_rf x2)]) C.1 dX0_swap_8 rfl (by rw [hXn]; decide) (by first | rfl | simp [va_rf_S, va_rf_cat, cat_i, cat_a, cat_l, cat_f, fin4_0, fin4_1, fin4_2, fin4_3]) ?_
    refine gk_aload_n (pc := 9) C.1 1 dX0_swap_9 rfl rfl ?_
    refine gk_qload_n (pc := 10) C.1 3 dX0_swap_10 rfl rfl ?_
    obtain ⟨ht, hw⟩ := hw
    refine gfp_X0_66 (pc := 11) (r := x2) C ht dX0_swap_11 (fun h_3 eh_3 => ?_)
    replace hw := hw h_3 eh_3
    refine gk_qload_n (pc := 14) C.1 0 dX0_swap_14 rfl rfl ?_
    exact gh_aret (pc := 15) (r := r_2) C S0 hret (Or.inl ⟨_, rfl⟩) dX0_swap_15 hw
/-! 134: GathersAllFaults.thereLook(ZLGathersAllFaults$Look;)LGathersAllFaults$Look; -/
def wb_X0_thereLook (cl : CT) (lm : Nat × Nat) (Q : QT) (E : ET) (x0 : Int32) (x1 : Option Nat) (h : HS) : Prop := bz x0 ∧ (hZ h + 1 ≤ lm.1 ∧ (hL h + 2 ≤ lm.2 ∧ (∀ (a_1 : Nat) (h_2 : HS), a_1 = hZ h → h_2 = sI (sR (hNew h 203 0 2) 88 (hZ h) x1) 89 (hZ h) x0 → (Q (some (va_rf (some a_1))) h_2))))
theorem wx_X0_thereLook {l : Launch} (hst : l.stackTraces = false) {G : GG} {cl : CT} {lm : Nat × Nat} {Q : QT} {E : ET} {d2 : Nat} (hCl : CallsOK l G d2 cl ∧ hLm G lm ∧ 8 ≤ d2 ∧ LamsOK l G d2 cl) {x0 : Int32} {x1 : Option Nat} {h : HS} (hw : wb_X0_thereLook cl lm Q E x0 x1 h) : HMet l G yX0_thereLook (ws_ yX0_thereLook cX0_thereLook 2 ((Option.some (Jvm.ClassFile.FieldType.object "GathersAllFaults$Look")))) (d2 + 1) [.int x0, va_rf x1] h Q E := by
  refine gh_met (own := RX0) rfl (by decide +kernel) hst (by simp only [lg_sl_i, lg_sl_r, lg_sl_a, lg_sl_2, lg_sl_f, lg_sl_0]; decide) (fun X hXl hXn hret hnm hTb h0 eh C S0 => ?_)
  subst hXl
  have hlm := hCl.2.1
  have hd8 := hCl.2.2.1
  have hd2 : 1 ≤ d2 := Nat.le_trans (by decide) hd8
  have hLa := hCl.2.2.2
  have hd1 : 1 ≤ d2 + 1 := Nat.le_add_left _ _
  have hC9 := hCl
  replace hCl := hCl.1
  have hini : (ev_s X).methodNamed? yX0_thereLook = some (ev_m X) := hnm.2
  unfold wb_X0_thereLook at hw
  refine GK.sub (lv' := [(0, .int x0), (1, va_rf x1)]) [0, 1] (by simp only [lv_args_i, lv_args_r, lv_args_a, lv_args_l, lv_args_f, lv_args_0]; rfl) ?_
  refine gk_qload_n (pc := 0) C.1 1 dX0_thereLook_0 rfl rfl ?_
  refine gk_iload_n (pc := 1) C.1 0 dX0_thereLook_1 rfl rfl ?_
  obtain ⟨hz, hr1, hr2, hw⟩ := hw
  refine gd_3 (r0 := x1) (v1 := x0) C hini hz (hlm.1 ▸ hr1) (hlm.2 ▸ hr2) (Nat.le_of_ble_eq_true rfl) dX0_thereLook_2 (fun a_1 h_2 ea_1 eh_2 => ?_)
  replace hw := hw a_1 h_2 ea_1 eh_2
  exact gh_aret (pc := 7) (r := (some a_1)) C S0 hret (Or.inl ⟨_, rfl⟩) dX0_thereLook_7 hw
/-! 135: GathersAllFaults.total()I -/
def wb_X0_total (cl : CT) (lm : Nat × Nat) (Q : QT) (E : ET) (x0 : Nat) (h : HS) : Prop := dp_GathersAllFaults_act cl x0 [.int 14, .int 0, .int 0, .int 0] h (gI (fun r_2 h_1 => Q (some (.int r_2)) h_1)) E
theorem wx_X0_total {l : Launch} (hst : l.stackTraces = false) {G : GG} {cl : CT} {lm : Nat × Nat} {Q : QT} {E : ET} {d2 : Nat} (hCl : CallsOK l G d2 cl ∧ hLm G lm ∧ 8 ≤ d2 ∧ LamsOK l G d2 cl) {x0 : Nat} {h : HS} (hw : wb_X0_total cl lm Q E x0 h) : HMet l G yX0_total (ws_ yX0_total cX0_total 1 ((Option.some Jvm.ClassFile.FieldType.int))) (d2 + 1) [.ref x0] h Q E := by
  refine gh_met (own := RX0) rfl (by decide +kernel) hst (by simp only [lg_sl_i, lg_sl_r, lg_sl_a, lg_sl_2, lg_sl_f, lg_sl_0]; decide) (fun X hXl hXn hret hnm hTb h0 eh C S0 => ?_)
  subst hXl
  have hlm := hCl.2.1
  have hd8 := hCl.2.2.1
  have hd2 : 1 ≤ d2 := Nat.le_trans (by decide) hd8
  have hLa := hCl.2.2.2
  have hd1 : 1 ≤ d2 + 1 := Nat.le_add_left _ _
  have hC9 := hCl
  replace hCl := hCl.1
  have hini : True := trivial
  unfold wb_X0_total at hw
  refine GK.sub (lv' := [(0, .ref x0)]) [0] (by simp only [lv_args_i, lv_args_r, lv_args_a, lv_args_l, lv_args_f, lv_args_0]; rfl) ?_
  refine gk_aload_n (pc := 0) C.1 0 dX0_total_0 rfl rfl ?_
  refine gk_bipush (pc := 1) (v := 14) C.1 dX0_total_1 (by decide) ?_
  refine gk_iconst (pc := 3) (v := 0) C.1 dX0_total_3 (by decide) ?_
  refine gk_iconst (pc := 4) (v := 0) C.1 dX0_total_4 (by decide) ?_
  refine gk_iconst (pc := 5) (v := 0) C.1 dX0_total_5 (by decide) ?_
  refine gc_X0_455 (pc := 6) (As := [.int 14, .int 0, .int 0, .int 0]) (rest := []) C hCl (Nat.le_refl _) hw rfl rfl (Nat.le_of_ble_eq_true rfl) dX0_total_6 (fun v9 h_1 hp => ?_) (fun q_3 h_4 hw ht9 => ?_)
  rotate_left
  · exact gx_out C S0 (by rw [hTb]; decide) ht9 hw
  clear hw
  obtain ⟨r_2, rfl, hw⟩ := hp
  refine GK.at (p2 := 9) rfl ?_
  exact gh_iret (pc := 9) C S0 hret dX0_total_9 hw
/-! 136: GathersAllFaults.totalTold()I -/
def wb_X0_totalTold (cl : CT) (lm : Nat × Nat) (Q : QT) (E : ET) (x0 : Nat) (h : HS) : Prop := dp_GathersAllFaults_found cl x0 [] h (gR (fun r_2 h_1 => ∃ a_5 : Nat, r_2 = some a_5 ∧ (dp_Finding_isNone cl a_5 [] h_1 (gI (fun r_7 h_6 => ((r_7 = 0 → (Q (some (.int (-9))) h_6)) ∧ (¬ r_7 = 0 → ((hT h_6 x0 = 1) ∧ (∀ r_11 : Option Nat, r_11 = hR h_6 0 x0 → (∃ a_12 : Nat, r_11 = some a_12 ∧ (dp_Value_total cl a_12 [] h_6 (gI (fun r_14 h_13 => Q (some (.int r_14)) h_13)) E)))))))) E))) E
theorem wx_X0_totalTold {l : Launch} (hst : l.stackTraces = false) {G : GG} {cl : CT} {lm : Nat × Nat} {Q : QT} {E : ET} {d2 : Nat} (hCl : CallsOK l G d2 cl ∧ hLm G lm ∧ 8 ≤ d2 ∧ LamsOK l G d2 cl) {x0 : Nat} {h : HS} (hw : wb_X0_totalTold cl lm Q E x0 h) : HMet l G yX0_totalTold (ws_ yX0_totalTold cX0_totalTold 1 ((Option.some Jvm.ClassFile.FieldType.int))) (d2 + 1) [.ref x0] h Q E := by
  refine gh_met (own := RX0) rfl (by decide +kernel) hst (by simp only [lg_sl_i, lg_sl_r, lg_sl_a, lg_sl_2, lg_sl_f, lg_sl_0]; decide) (fun X hXl hXn hret hnm hTb h0 eh C S0 => ?_)
  subst hXl
  have hlm := hCl.2.1
  have hd8 := hCl.2.2.1
  have hd2 : 1 ≤ d2 := Nat.le_trans (by decide) hd8
  have hLa := hCl.2.2.2
  have hd1 : 1 ≤ d2 + 1 := Nat.le_add_left _ _
  have hC9 := hCl
  replace hCl := hCl.1
  have hini : True := trivial
  unfold wb_X0_totalTold at hw
  refine GK.sub (lv' := [(0, .ref x0)]) [0] (by simp only [lv_args_i, lv_args_r, lv_args_a, lv_args_l, lv_args_f, lv_args_0]; rfl) ?_
  refine gk_aload_n (pc := 0) C.1 0 dX0_totalTold_0 rfl rfl ?_
  refine gc_X0_229 (pc := 1) (As := []) (rest := []) C hCl (Nat.le_refl _) hw rfl rfl (Nat.le_of_ble_eq_true rfl) dX0_totalTold_1 (fun v9 h_1 hp => ?_) (fun q_3 h_4 hw ht9 => ?_)
  rotate_left
  · exact gx_out C S0 (by rw [hTb]; decide) ht9 hw
  clear hw
  obtain ⟨r_2, rfl, hw⟩ := hp
  refine GK.at (p2 := 4) rfl ?_
  obtain ⟨a_5, rfl, hw⟩ := hw
  refine gc_X0_293 (pc := 4) (As := []) (rest := []) C hCl (Nat.le_refl _) hw rfl rfl (Nat.le_of_ble_eq_true rfl) dX0_totalTold_4 (fun v9 h_6 hp => ?_) (fun q_8 h_9 hw ht9 => ?_)
  rotate_left
  · exact gx_out C S0 (by rw [hTb]; decide) ht9 hw
  clear hw
  obtain ⟨r_7, rfl, hw⟩ := hp
  refine GK.at (p2 := 7) rfl ?_
  refine gk_if_eq (pc := 7) (tgt := 20) C.1 dX0_totalTold_7 (by decide) (fun c_10 => ?_) (fun c_10 => ?_)
  · replace hw := hw.1 c_10
    refine gk_bipush (pc := 20) (v := (-9)) C.1 dX0_totalTold_20 (by decide) ?_
    exact gh_iret (pc := 22) C S0 hret dX0_totalTold_22 hw
  · replace hw := hw.2 c_10
    refine gk_aload_n (pc := 10) C.1 0 dX0_totalTold_10 rfl rfl ?_
    obtain ⟨ht, hw⟩ := hw
    refine gf_X0_66 (pc := 11) C ht dX0_totalTold_11 (fun r_11 er_11 => ?_)
    replace hw := hw r_11 er_11
    obtain ⟨a_12, rfl, hw⟩ := hw
    refine gc_X0_354 (pc := 14) (As := []) (rest := []) C hCl (Nat.le_refl _) hw rfl rfl (Nat.le_of_ble_eq_true rfl) dX0_totalTold_14 (fun v9 h_13 hp => ?_) (fun q_15 h_16 hw ht9 => ?_)
    rotate_left
    · exact gx_out C S0 (by rw [hTb]; decide) ht9 hw
    clear hw
    obtain ⟨r_14, rfl, hw⟩ := hp
    refine GK.at (p2 := 17) rfl ?_
    refine gk_goto (pc := 17) (tgt := 22) C.1 dX0_totalTold_17 (by decide) ?_
    exact gh_iret (pc := 22) C S0 hret dX0_totalTold_22 hw
/-! 137: GathersAllFaults.value()I -/
def wb_X0_value (cl : CT) (lm : Nat × Nat) (Q : QT) (E : ET) (x0 : Nat) (h : HS) : Prop := dp_GathersAllFaults_act cl x0 [.int 1, .int 0, .int 0, .int 0] h (gI (fun r_2 h_1 => Q (some (.int r_2)) h_1)) E
theorem wx_X0_value {l : Launch} (hst : l.stackTraces = false) {G : GG} {cl : CT} {lm : Nat × Nat} {Q : QT} {E : ET} {d2 : Nat} (hCl : CallsOK l G d2 cl ∧ hLm G lm ∧ 8 ≤ d2 ∧ LamsOK l G d2 cl) {x0 : Nat} {h : HS} (hw : wb_X0_value cl lm Q E x0 h) : HMet l G yX0_value (ws_ yX0_value cX0_value 1 ((Option.some Jvm.ClassFile.FieldType.int))) (d2 + 1) [.ref x0] h Q E := by
  refine gh_met (own := RX0) rfl (by decide +kernel) hst (by simp only [lg_sl_i, lg_sl_r, lg_sl_a, lg_sl_2, lg_sl_f, lg_sl_0]; decide) (fun X hXl hXn hret hnm hTb h0 eh C S0 => ?_)
  subst hXl
  have hlm := hCl.2.1
  have hd8 := hCl.2.2.1
  have hd2 : 1 ≤ d2 := Nat.le_trans (by decide) hd8
  have hLa := hCl.2.2.2
  have hd1 : 1 ≤ d2 + 1 := Nat.le_add_left _ _
  have hC9 := hCl
  replace hCl := hCl.1
  have hini : True := trivial
  unfold wb_X0_value at hw
  refine GK.sub (lv' := [(0, .ref x0)]) [0] (by simp only [lv_args_i, lv_args_r, lv_args_a, lv_args_l, lv_args_f, lv_args_0]; rfl) ?_
  refine gk_aload_n (pc := 0) C.1 0 dX0_value_0 rfl rfl ?_
  refine gk_iconst (pc := 1) (v := 1) C.1 dX0_value_1 (by decide) ?_
  refine gk_iconst (pc := 2) (v := 0) C.1 dX0_value_2 (by decide) ?_
  refine gk_iconst (pc := 3) (v := 0) C.1 dX0_value_3 (by decide) ?_
  refine gk_iconst (pc := 4) (v := 0) C.1 dX0_value_4 (by decide) ?_
  refine gc_X0_455 (pc := 5) (As := [.int 1, .int 0, .int 0, .int 0]) (rest := []) C hCl (Nat.le_refl _) hw rfl rfl (Nat.le_of_ble_eq_true rfl) dX0_value_5 (fun v9 h_1 hp => ?_) (fun q_3 h_4 hw ht9 => ?_)
  rotate_left
  · exact gx_out C S0 (by rw [hTb]; decide) ht9 hw
  clear hw
  obtain ⟨r_2, rfl, hw⟩ := hp
  refine GK.at (p2 := 8) rfl ?_
  exact gh_iret (pc := 8) C S0 hret dX0_value_8 hw
/-! 138: GathersAllFaults.waits()I -/
def wb_X0_waits (cl : CT) (lm : Nat × Nat) (Q : QT) (E : ET) (x0 : Nat) (h : HS) : Prop := dp_GathersAllFaults_act cl x0 [.int 11, .int 0, .int 0, .int 0] h (gI (fun r_2 h_1 => Q (some (.int r_2)) h_1)) E
theorem wx_X0_waits {l : Launch} (hst : l.stackTraces = false) {G : GG} {cl : CT} {lm : Nat × Nat} {Q : QT} {E : ET} {d2 : Nat} (hCl : CallsOK l G d2 cl ∧ hLm G lm ∧ 8 ≤ d2 ∧ LamsOK l G d2 cl) {x0 : Nat} {h : HS} (hw : wb_X0_waits cl lm Q E x0 h) : HMet l G yX0_waits (ws_ yX0_waits cX0_waits 1 ((Option.some Jvm.ClassFile.FieldType.int))) (d2 + 1) [.ref x0] h Q E := by
  refine gh_met (own := RX0) rfl (by decide +kernel) hst (by simp only [lg_sl_i, lg_sl_r, lg_sl_a, lg_sl_2, lg_sl_f, lg_sl_0]; decide) (fun X hXl hXn hret hnm hTb h0 eh C S0 => ?_)
  subst hXl
  have hlm := hCl.2.1
  have hd8 := hCl.2.2.1
  have hd2 : 1 ≤ d2 := Nat.le_trans (by decide) hd8
  have hLa := hCl.2.2.2
  have hd1 : 1 ≤ d2 + 1 := Nat.le_add_left _ _
  have hC9 := hCl
  replace hCl := hCl.1
  have hini : True := trivial
  unfold wb_X0_waits at hw
  refine GK.sub (lv' := [(0, .ref x0)]) [0] (by simp only [lv_args_i, lv_args_r, lv_args_a, lv_args_l, lv_args_f, lv_args_0]; rfl) ?_
  refine gk_aload_n (pc := 0) C.1 0 dX0_waits_0 rfl rfl ?_
  refine gk_bipush (pc := 1) (v := 11) C.1 dX0_waits_1 (by decide) ?_
  refine gk_iconst (pc := 3) (v := 0) C.1 dX0_waits_3 (by decide) ?_
  refine gk_iconst (pc := 4) (v := 0) C.1 dX0_waits_4 (by decide) ?_
  refine gk_iconst (pc := 5) (v := 0) C.1 dX0_waits_5 (by decide) ?_
  refine gc_X0_455 (pc := 6) (As := [.int 11, .int 0, .int 0, .int 0]) (rest := []) C hCl (Nat.le_refl _) hw rfl rfl (Nat.le_of_ble_eq_true rfl) dX0_waits_6 (fun v9 h_1 hp => ?_) (fun q_3 h_4 hw ht9 => ?_)
  rotate_left
  · exact gx_out C S0 (by rw [hTb]; decide) ht9 hw
  clear hw
  obtain ⟨r_2, rfl, hw⟩ := hp
  refine GK.at (p2 := 9) rfl ?_
  exact gh_iret (pc := 9) C S0 hret dX0_waits_9 hw
/-! 139: GathersAllFaults.which(I)I -/
def wb_X0_which (cl : CT) (lm : Nat × Nat) (Q : QT) (E : ET) (x0 : Nat) (x1 : Int32) (h : HS) : Prop := dp_GathersAllFaults_act cl x0 [.int 21, .int x1, .int 0, .int 0] h (gI (fun r_2 h_1 => Q (some (.int r_2)) h_1)) E
theorem wx_X0_which {l : Launch} (hst : l.stackTraces = false) {G : GG} {cl : CT} {lm : Nat × Nat} {Q : QT} {E : ET} {d2 : Nat} (hCl : CallsOK l G d2 cl ∧ hLm G lm ∧ 8 ≤ d2 ∧ LamsOK l G d2 cl) {x0 : Nat} {x1 : Int32} {h : HS} (hw : wb_X0_which cl lm Q E x0 x1 h) : HMet l G yX0_which (ws_ yX0_which cX0_which 2 ((Option.some Jvm.ClassFile.FieldType.int))) (d2 + 1) [.ref x0, .int x1] h Q E := by
  refine gh_met (own := RX0) rfl (by decide +kernel) hst (by simp only [lg_sl_i, lg_sl_r, lg_sl_a, lg_sl_2, lg_sl_f, lg_sl_0]; decide) (fun X hXl hXn hret hnm hTb h0 eh C S0 => ?_)
  subst hXl
  have hlm := hCl.2.1
  have hd8 := hCl.2.2.1
  have hd2 : 1 ≤ d2 := Nat.le_trans (by decide) hd8
  have hLa := hCl.2.2.2
  have hd1 : 1 ≤ d2 + 1 := Nat.le_add_left _ _
  have hC9 := hCl
  replace hCl := hCl.1
  have hini : True := trivial
  unfold wb_X0_which at hw
  refine GK.sub (lv' := [(0, .ref x0), (1, .int x1)]) [0, 1] (by simp only [lv_args_i, lv_args_r, lv_args_a, lv_args_l, lv_args_f, lv_args_0]; rfl) ?_
  refine gk_aload_n (pc := 0) C.1 0 dX0_which_0 rfl rfl ?_
  refine gk_bipush (pc := 1) (v := 21) C.1 dX0_which_1 (by decide) ?_
  refine gk_iload_n (pc := 3) C.1 1 dX0_which_3 rfl rfl ?_
  refine gk_iconst (pc := 4) (v := 0) C.1 dX0_which_4 (by decide) ?_
  refine gk_iconst (pc := 5) (v := 0) C.1 dX0_which_5 (by decide) ?_
  refine gc_X0_455 (pc := 6) (As := [.int 21, .int x1, .int 0, .int 0]) (rest := []) C hCl (Nat.le_refl _) hw rfl rfl (Nat.le_of_ble_eq_true rfl) dX0_which_6 (fun v9 h_1 hp => ?_) (fun q_3 h_4 hw ht9 => ?_)
  rotate_left
  · exact gx_out C S0 (by rw [hTb]; decide) ht9 hw
  clear hw
  obtain ⟨r_2, rfl, hw⟩ := hp
  refine GK.at (p2 := 9) rfl ?_
  exact gh_iret (pc := 9) C S0 hret dX0_which_9 hw
