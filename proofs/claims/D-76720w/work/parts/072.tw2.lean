set_option maxRecDepth 100000
/-! takesSecond(II)V -/
def wt_takesSecond_10 (k : TS → Prop) : Nat → Int32 → Int32 → Int32 → Int32 → TS → Prop
  | 0 => fun _ _ _ _ _ => False
  | n + 1 => fun x1 x2 x3 x4 u => ((x3 ≤ x4 → (∀ u_2 : TS, u_2 = tpI u 33 (x1 + x3) → (k u_2))) ∧ (¬ x3 ≤ x4 → (vp_in (x2 + x4) 16384 ∧ (vp_in (x1 + x4) 16384 ∧ (∀ u_3 : TS, u_3 = tpA u 24 (x1 + x4).toNatClampNeg (u.1 24 (x2 + x4).toNatClampNeg) → (vp_in (x2 + x4) 16384 ∧ (vp_in (x1 + x4) 16384 ∧ (∀ u_4 : TS, u_4 = tpA u_3 25 (x1 + x4).toNatClampNeg (u_3.1 25 (x2 + x4).toNatClampNeg) → (∀ x_5 : Int32, x_5 = x4 + 1 → (wt_takesSecond_10 k n x1 x2 x3 x_5 u_4))))))))))
theorem kt_takesSecond_10 {X : Ev} {G : TG} {k : TS → Prop} (C : TC X G cX6_takesSecond 1) (hG : TD G) (hret : (ev_h X).sig.returnType = none) (hXn : ev_n X = 5) : ∀ (n : Nat) (x1 : Int32) (x2 : Int32) (x3 : Int32) (x4 : Int32) (u : TS), wt_takesSecond_10 k n x1 x2 x3 x4 u → GK X (TP G u) 0 0 (tQ X G (tV k)) 10 [(0, .ref G.2.2.1), (1, .int x1), (2, .int x2), (3, .int x3), (4, .int x4)] [] := by
  intro n
  induction n with
  | zero => intro x1 x2 x3 x4 u hw; exact hw.elim
  | succ n ih =>
  intro x1 x2 x3 x4 u hw
  unfold wt_takesSecond_10 at hw
  refine gk_iload (pc := 10) C.1 4 dX6_takesSecond_10 rfl ?_
  refine gk_iload_n (pc := 12) C.1 3 dX6_takesSecond_12 rfl rfl ?_
  refine gk_icmp_ge (pc := 13) (tgt := 58) C.1 dX6_takesSecond_13 (by decide) (fun c_1 => ?_) (fun c_1 => ?_)
  · replace hw := hw.1 c_1
    refine gk_aload_n (pc := 58) C.1 0 dX6_takesSecond_58 rfl rfl ?_
    refine gk_iload_n (pc := 59) C.1 1 dX6_takesSecond_59 rfl rfl ?_
    refine gk_iload_n (pc := 60) C.1 3 dX6_takesSecond_60 rfl rfl ?_
    refine gk_iadd (pc := 61) C.1 dX6_takesSecond_61 ?_
    refine tk_putI (pc := 62) C (k := 33) (by decide) (by decide) q2154 rfl rfl (ty := .int) rfl rfl rfl dX6_takesSecond_62 (fun u_2 eu_2 => ?_)
    replace hw := hw u_2 eu_2
    exact tk_vret (pc := 65) C hret dX6_takesSecond_65 hw
  · replace hw := hw.2 c_1
    refine gk_aload_n (pc := 16) C.1 0 dX6_takesSecond_16 rfl rfl ?_
    refine tk_getA (pc := 17) C (k := 24) (by decide) (by decide) q2145 rfl dX6_takesSecond_17 ?_
    refine gk_iload_n (pc := 20) C.1 1 dX6_takesSecond_20 rfl rfl ?_
    refine gk_iload (pc := 21) C.1 4 dX6_takesSecond_21 rfl ?_
    refine gk_iadd (pc := 23) C.1 dX6_takesSecond_23 ?_
    refine gk_aload_n (pc := 24) C.1 0 dX6_takesSecond_24 rfl rfl ?_
    refine tk_getA (pc := 25) C (k := 24) (by decide) (by decide) q2145 rfl dX6_takesSecond_25 ?_
    refine gk_iload_n (pc := 28) C.1 2 dX6_takesSecond_28 rfl rfl ?_
    refine gk_iload (pc := 29) C.1 4 dX6_takesSecond_29 rfl ?_
    refine gk_iadd (pc := 31) C.1 dX6_takesSecond_31 ?_
    obtain ⟨hi, hw⟩ := hw
    refine tk_ald (pc := 32) C (k := 24) (by decide) hi dX6_takesSecond_32 ?_
    obtain ⟨hi, hw⟩ := hw
    refine tk_ast (pc := 33) C (k := 24) (by decide) hi dX6_takesSecond_33 (fun u_3 eu_3 => ?_)
    replace hw := hw u_3 eu_3
    refine gk_aload_n (pc := 34) C.1 0 dX6_takesSecond_34 rfl rfl ?_
    refine tk_getA (pc := 35) C (k := 25) (by decide) (by decide) q2146 rfl dX6_takesSecond_35 ?_
    refine gk_iload_n (pc := 38) C.1 1 dX6_takesSecond_38 rfl rfl ?_
    refine gk_iload (pc := 39) C.1 4 dX6_takesSecond_39 rfl ?_
    refine gk_iadd (pc := 41) C.1 dX6_takesSecond_41 ?_
    refine gk_aload_n (pc := 42) C.1 0 dX6_takesSecond_42 rfl rfl ?_
    refine tk_getA (pc := 43) C (k := 25) (by decide) (by decide) q2146 rfl dX6_takesSecond_43 ?_
    refine gk_iload_n (pc := 46) C.1 2 dX6_takesSecond_46 rfl rfl ?_
    refine gk_iload (pc := 47) C.1 4 dX6_takesSecond_47 rfl ?_
    refine gk_iadd (pc := 49) C.1 dX6_takesSecond_49 ?_
    obtain ⟨hi, hw⟩ := hw
    refine tk_ald (pc := 50) C (k := 25) (by decide) hi dX6_takesSecond_50 ?_
    obtain ⟨hi, hw⟩ := hw
    refine tk_ast (pc := 51) C (k := 25) (by decide) hi dX6_takesSecond_51 (fun u_4 eu_4 => ?_)
    replace hw := hw u_4 eu_4
    obtain ⟨x_5, ex_5⟩ : ∃ z : Int32, z = x4 + 1 := ⟨_, rfl⟩
    replace hw := hw x_5 ex_5
    refine gk_iinc (pc := 52) (v := x_5) (lv' := [(4, Value.int x_5), (0, Value.ref G.2.2.1), (1, Value.int x1), (2, Value.int x2), (3, Value.int x3)]) C.1 4 dX6_takesSecond_52 rfl (by rw [ex_5]; rfl) (by rw [hXn]; decide) rfl ?_
    refine gk_goto (pc := 55) (tgt := 10) C.1 dX6_takesSecond_55 (by decide) ?_
    refine GK.sub (lv' := [(0, .ref G.2.2.1), (1, .int x1), (2, .int x2), (3, .int x3), (4, .int x_5)]) [1, 2, 3, 4, 0] rfl ?_
    exact ih _ _ _ _ _ hw
def wt_takesSecond (k : TS → Prop) (x1 : Int32) (x2 : Int32) (u : TS) : Prop := ∀ x_1 : Int32, x_1 = (u.2 33) - x2 → (∃ fu : Nat, wt_takesSecond_10 k fu x1 x2 x_1 0 u)
theorem wk_takesSecond (l : Launch) {G : TG} (hG : TD G) {k : TS → Prop} {x1 : Int32} {x2 : Int32} {u : TS} (hw : wt_takesSecond k x1 x2 u) : TMet l yX6_takesSecond cX6_takesSecond 5 (none) 1 G [.ref G.2.2.1, .int x1, .int x2] u (tV k) := by
  refine tk_met hG rfl (Nat.le_of_ble_eq_true rfl) (fun X hXl hXn hret C => ?_)
  subst hXl
  unfold wt_takesSecond at hw
  refine GK.sub (lv' := [(0, .ref G.2.2.1), (1, .int x1), (2, .int x2)]) [0, 1, 2] rfl ?_
  refine gk_aload_n (pc := 0) C.1 0 dX6_takesSecond_0 rfl rfl ?_
  refine tk_getI (pc := 1) C (k := 33) (by decide) (by decide) q2154 rfl dX6_takesSecond_1 ?_
  refine gk_iload_n (pc := 4) C.1 2 dX6_takesSecond_4 rfl rfl ?_
  refine gk_isub (pc := 5) C.1 dX6_takesSecond_5 ?_
  obtain ⟨x_1, ex_1⟩ : ∃ z : Int32, z = (u.2 33) - x2 := ⟨_, rfl⟩
  rw [← ex_1]
  replace hw := hw x_1 ex_1
  refine gk_istore_n (pc := 6) (lv' := [(3, Value.int x_1), (0, Value.ref G.2.2.1), (1, Value.int x1), (2, Value.int x2)]) C.1 dX6_takesSecond_6 rfl (by rw [hXn]; decide) rfl ?_
  refine gk_iconst (pc := 7) (v := 0) C.1 dX6_takesSecond_7 (by decide) ?_
  refine gk_istore (pc := 8) (lv' := [(4, Value.int 0), (3, Value.int x_1), (0, Value.ref G.2.2.1), (1, Value.int x1), (2, Value.int x2)]) C.1 dX6_takesSecond_8 (by rw [hXn]; decide) rfl ?_
  refine GK.sub (lv' := [(0, .ref G.2.2.1), (1, .int x1), (2, .int x2), (3, .int x_1), (4, .int 0)]) [2, 3, 4, 1, 0] rfl ?_
  obtain ⟨n9, hw⟩ := hw
  exact kt_takesSecond_10 C hG hret hXn  n9 _ _ _ _ _ hw
/-! endsEither()V -/
def wt_endsEither (k : TS → Prop) (u : TS) : Prop := ∀ u_1 : TS, u_1 = tpI u 35 ((u.2 35) - 1) → (vp_in (u_1.2 35) 400 ∧ (∀ x_2 : Int32, x_2 = u_1.1 29 (u_1.2 35).toNatClampNeg → (vp_in (u_1.2 35) 400 ∧ (∀ x_3 : Int32, x_3 = u_1.1 31 (u_1.2 35).toNatClampNeg → ((((x_3 - x_2) ≤ ((u_1.2 33) - x_3) → (∀ u_5 : TS, u_5 = tpI u_1 33 x_3 → (vp_in (u_5.2 35) 400 ∧ (∀ u_6 : TS, u_6 = tpI u_5 34 (u_5.1 32 (u_5.2 35).toNatClampNeg) → (k u_6))))) ∧ (¬ (x_3 - x_2) ≤ ((u_1.2 33) - x_3) → (wt_takesSecond (fun u_7 => vp_in (u_7.2 35) 400 ∧ (vp_in (u_7.2 35) 400 ∧ (∀ u_8 : TS, u_8 = tpI u_7 34 (((u_7.1 30 (u_7.2 35).toNatClampNeg) + (u_7.2 34)) - (u_7.1 32 (u_7.2 35).toNatClampNeg)) → (k u_8)))) x_2 x_3 u_1))))))))
theorem wk_endsEither (l : Launch) {G : TG} (hG : TD G) {k : TS → Prop} {u : TS} (hw : wt_endsEither k  u) : TMet l yX6_endsEither cX6_endsEither 3 (none) 2 G [.ref G.2.2.1] u (tV k) := by
  refine tk_met hG rfl (Nat.le_of_ble_eq_true rfl) (fun X hXl hXn hret C => ?_)
  subst hXl
  unfold wt_endsEither at hw
  refine GK.sub (lv' := [(0, .ref G.2.2.1)]) [0] rfl ?_
  refine gk_aload_n (pc := 0) C.1 0 dX6_endsEither_0 rfl rfl ?_
  refine gk_dup (pc := 1) C.1 dX6_endsEither_1 rfl ?_
  refine tk_getI (pc := 2) C (k := 35) (by decide) (by decide) q2156 rfl dX6_endsEither_2 ?_
  refine gk_iconst (pc := 5) (v := 1) C.1 dX6_endsEither_5 (by decide) ?_
  refine gk_isub (pc := 6) C.1 dX6_endsEither_6 ?_
  refine tk_putI (pc := 7) C (k := 35) (by decide) (by decide) q2156 rfl rfl (ty := .int) rfl rfl rfl dX6_endsEither_7 (fun u_1 eu_1 => ?_)
  replace hw := hw u_1 eu_1
  refine gk_aload_n (pc := 10) C.1 0 dX6_endsEither_10 rfl rfl ?_
  refine tk_getA (pc := 11) C (k := 29) (by decide) (by decide) q2150 rfl dX6_endsEither_11 ?_
  refine gk_aload_n (pc := 14) C.1 0 dX6_endsEither_14 rfl rfl ?_
  refine tk_getI (pc := 15) C (k := 35) (by decide) (by decide) q2156 rfl dX6_endsEither_15 ?_
  obtain ⟨hi, hw⟩ := hw
  refine tk_ald (pc := 18) C (k := 29) (by decide) hi dX6_endsEither_18 ?_
  obtain ⟨x_2, ex_2⟩ : ∃ z : Int32, z = u_1.1 29 (u_1.2 35).toNatClampNeg := ⟨_, rfl⟩
  rw [← ex_2]
  replace hw := hw x_2 ex_2
  refine gk_istore_n (pc := 19) (lv' := [(1, Value.int x_2), (0, Value.ref G.2.2.1)]) C.1 dX6_endsEither_19 rfl (by rw [hXn]; decide) rfl ?_
  refine gk_aload_n (pc := 20) C.1 1 dX6_endsEither_20 rfl rfl ?_
  refine tk_getA (pc := 21) C (k := 31) (by decide) (by decide) q2152 rfl dX6_endsEither_21 ?_
  refine gk_aload_n (pc := 24) C.1 1 dX6_endsEither_24 rfl rfl ?_
  refine tk_getI (pc := 25) C (k := 35) (by decide) (by decide) q2156 rfl dX6_endsEither_25 ?_
  obtain ⟨hi, hw⟩ := hw
  refine tk_ald (pc := 28) C (k := 31) (by decide) hi dX6_endsEither_28 ?_
  obtain ⟨x_3, ex_3⟩ : ∃ z : Int32, z = u_1.1 31 (u_1.2 35).toNatClampNeg := ⟨_, rfl⟩
  rw [← ex_3]
  replace hw := hw x_3 ex_3
  refine gk_istore_n (pc := 29) (lv' := [(2, Value.int x_3), (1, Value.int x_2), (0, Value.ref G.2.2.1)]) C.1 dX6_endsEither_29 rfl (by rw [hXn]; decide) rfl ?_
  refine gk_aload_n (pc := 30) C.1 2 dX6_endsEither_30 rfl rfl ?_
  refine tk_getI (pc := 31) C (k := 33) (by decide) (by decide) q2154 rfl dX6_endsEither_31 ?_
  refine gk_iload_n (pc := 34) C.1 0 dX6_endsEither_34 rfl rfl ?_
  refine gk_isub (pc := 35) C.1 dX6_endsEither_35 ?_
  refine gk_iload_n (pc := 36) C.1 0 dX6_endsEither_36 rfl rfl ?_
  refine gk_iload_n (pc := 37) C.1 1 dX6_endsEither_37 rfl rfl ?_
  refine gk_isub (pc := 38) C.1 dX6_endsEither_38 ?_
  refine gk_icmp_ge (pc := 39) (tgt := 79) C.1 dX6_endsEither_39 (by decide) (fun c_4 => ?_) (fun c_4 => ?_)
  · replace hw := hw.1 c_4
    refine gk_aload_n (pc := 79) C.1 2 dX6_endsEither_79 rfl rfl ?_
    refine gk_iload_n (pc := 80) C.1 0 dX6_endsEither_80 rfl rfl ?_
    refine tk_putI (pc := 81) C (k := 33) (by decide) (by decide) q2154 rfl rfl (ty := .int) rfl rfl rfl dX6_endsEither_81 (fun u_5 eu_5 => ?_)
    replace hw := hw u_5 eu_5
    refine gk_aload_n (pc := 84) C.1 2 dX6_endsEither_84 rfl rfl ?_
    refine gk_aload_n (pc := 85) C.1 2 dX6_endsEither_85 rfl rfl ?_
    refine tk_getA (pc := 86) C (k := 32) (by decide) (by decide) q2153 rfl dX6_endsEither_86 ?_
    refine gk_aload_n (pc := 89) C.1 2 dX6_endsEither_89 rfl rfl ?_
    refine tk_getI (pc := 90) C (k := 35) (by decide) (by decide) q2156 rfl dX6_endsEither_90 ?_
    obtain ⟨hi, hw⟩ := hw
    refine tk_ald (pc := 93) C (k := 32) (by decide) hi dX6_endsEither_93 ?_
    refine tk_putI (pc := 94) C (k := 34) (by decide) (by decide) q2155 rfl rfl (ty := .int) rfl rfl rfl dX6_endsEither_94 (fun u_6 eu_6 => ?_)
    replace hw := hw u_6 eu_6
    exact tk_vret (pc := 97) C hret dX6_endsEither_97 hw
  · replace hw := hw.2 c_4
    refine gk_aload_n (pc := 42) C.1 2 dX6_endsEither_42 rfl rfl ?_
    refine gk_iload_n (pc := 43) C.1 1 dX6_endsEither_43 rfl rfl ?_
    refine gk_iload_n (pc := 44) C.1 0 dX6_endsEither_44 rfl rfl ?_
    refine tk_callV (pc := 45) (y := yX6_takesSecond) (n := 2) (As := [.int x_2, .int x_3]) (rest := []) C (wk_takesSecond (ev_l X) hG hw) q2563 q2565 qs122 q2566 ⟨rfl, by decide +kernel⟩ ⟨by decide, by decide⟩ rfl rfl (Nat.le_of_ble_eq_true rfl) dX6_endsEither_45 (fun v9 u_7 hp => ?_)
    obtain ⟨rfl, hw⟩ := hp
    refine GK.at (p2 := 48) rfl ?_
    refine gk_aload_n (pc := 48) C.1 2 dX6_endsEither_48 rfl rfl ?_
    refine gk_aload_n (pc := 49) C.1 2 dX6_endsEither_49 rfl rfl ?_
    refine tk_getA (pc := 50) C (k := 30) (by decide) (by decide) q2151 rfl dX6_endsEither_50 ?_
    refine gk_aload_n (pc := 53) C.1 2 dX6_endsEither_53 rfl rfl ?_
    refine tk_getI (pc := 54) C (k := 35) (by decide) (by decide) q2156 rfl dX6_endsEither_54 ?_
    obtain ⟨hi, hw⟩ := hw
    refine tk_ald (pc := 57) C (k := 30) (by decide) hi dX6_endsEither_57 ?_
    refine gk_aload_n (pc := 58) C.1 2 dX6_endsEither_58 rfl rfl ?_
    refine tk_getI (pc := 59) C (k := 34) (by decide) (by decide) q2155 rfl dX6_endsEither_59 ?_
    refine gk_iadd (pc := 62) C.1 dX6_endsEither_62 ?_
    refine gk_aload_n (pc := 63) C.1 2 dX6_endsEither_63 rfl rfl ?_
    refine tk_getA (pc := 64) C (k := 32) (by decide) (by decide) q2153 rfl dX6_endsEither_64 ?_
    refine gk_aload_n (pc := 67) C.1 2 dX6_endsEither_67 rfl rfl ?_
    refine tk_getI (pc := 68) C (k := 35) (by decide) (by decide) q2156 rfl dX6_endsEither_68 ?_
    obtain ⟨hi, hw⟩ := hw
    refine tk_ald (pc := 71) C (k := 32) (by decide) hi dX6_endsEither_71 ?_
    refine gk_isub (pc := 72) C.1 dX6_endsEither_72 ?_
    refine tk_putI (pc := 73) C (k := 34) (by decide) (by decide) q2155 rfl rfl (ty := .int) rfl rfl rfl dX6_endsEither_73 (fun u_8 eu_8 => ?_)
    replace hw := hw u_8 eu_8
    refine gk_goto (pc := 76) (tgt := 97) C.1 dX6_endsEither_76 (by decide) ?_
    exact tk_vret (pc := 97) C hret dX6_endsEither_97 hw
/-! findsEither(II)V -/
def wt_findsEither_111 (k : TS → Prop) (x1 : Int32) (x2 : Int32) (x3 : Int32) (u : TS) : Prop := ((¬ x3 = 1 → (wt_endsEither (fun u_2 => k u_2) u)) ∧ (x3 = 1 → (vp_in ((u.2 35) - 1) 400 ∧ (∀ u_3 : TS, u_3 = tpA u 31 ((u.2 35) - 1).toNatClampNeg (u.2 33) → (vp_in ((u_3.2 35) - 1) 400 ∧ (∀ u_4 : TS, u_4 = tpA u_3 32 ((u_3.2 35) - 1).toNatClampNeg (u_3.2 34) → (vp_in x1 25 ∧ (wt_looks (fun u_5 => k u_5) (u_4.1 11 x1.toNatClampNeg) x2 u_4))))))))
theorem kt_findsEither_111 {X : Ev} {G : TG} {k : TS → Prop} (C : TC X G cX6_findsEither 3) (hG : TD G) (hret : (ev_h X).sig.returnType = none) (hXn : ev_n X = 4) : ∀ (x1 : Int32) (x2 : Int32) (x3 : Int32) (u : TS), wt_findsEither_111 k x1 x2 x3 u → GK X (TP G u) 0 0 (tQ X G (tV k)) 111 [(0, .ref G.2.2.1), (1, .int x1), (2, .int x2), (3, .int x3)] [] := by
  intro x1 x2 x3 u hw
  unfold wt_findsEither_111 at hw
  refine gk_iload_n (pc := 111) C.1 3 dX6_findsEither_111 rfl rfl ?_
  refine gk_iconst (pc := 112) (v := 1) C.1 dX6_findsEither_112 (by decide) ?_
  refine gk_icmp_ne (pc := 113) (tgt := 160) C.1 dX6_findsEither_113 (by decide) (fun c_1 => ?_) (fun c_1 => ?_)
  · replace hw := hw.1 c_1
    refine gk_aload_n (pc := 160) C.1 0 dX6_findsEither_160 rfl rfl ?_
    refine tk_callV (pc := 161) (y := yX6_endsEither) (n := 0) (As := []) (rest := []) C (wk_endsEither (ev_l X) hG hw) q2559 q2561 qs121 q2562 ⟨rfl, by decide +kernel⟩ ⟨by decide, by decide⟩ rfl rfl (Nat.le_of_ble_eq_true rfl) dX6_findsEither_161 (fun v9 u_2 hp => ?_)
    obtain ⟨rfl, hw⟩ := hp
    refine GK.at (p2 := 164) rfl ?_
    exact tk_vret (pc := 164) C hret dX6_findsEither_164 hw
  · replace hw := hw.2 c_1
    refine gk_aload_n (pc := 116) C.1 0 dX6_findsEither_116 rfl rfl ?_
    refine tk_getA (pc := 117) C (k := 31) (by decide) (by decide) q2152 rfl dX6_findsEither_117 ?_
    refine gk_aload_n (pc := 120) C.1 0 dX6_findsEither_120 rfl rfl ?_
    refine tk_getI (pc := 121) C (k := 35) (by decide) (by decide) q2156 rfl dX6_findsEither_121 ?_
    refine gk_iconst (pc := 124) (v := 1) C.1 dX6_findsEither_124 (by decide) ?_
    refine gk_isub (pc := 125) C.1 dX6_findsEither_125 ?_
    refine gk_aload_n (pc := 126) C.1 0 dX6_findsEither_126 rfl rfl ?_
    refine tk_getI (pc := 127) C (k := 33) (by decide) (by decide) q2154 rfl dX6_findsEither_127 ?_
    obtain ⟨hi, hw⟩ := hw
    refine tk_ast (pc := 130) C (k := 31) (by decide) hi dX6_findsEither_130 (fun u_3 eu_3 => ?_)
    replace hw := hw u_3 eu_3
    refine gk_aload_n (pc := 131) C.1 0 dX6_findsEither_131 rfl rfl ?_
    refine tk_getA (pc := 132) C (k := 32) (by decide) (by decide) q2153 rfl dX6_findsEither_132 ?_
    refine gk_aload_n (pc := 135) C.1 0 dX6_findsEither_135 rfl rfl ?_
    refine tk_getI (pc := 136) C (k := 35) (by decide) (by decide) q2156 rfl dX6_findsEither_136 ?_
    refine gk_iconst (pc := 139) (v := 1) C.1 dX6_findsEither_139 (by decide) ?_
    refine gk_isub (pc := 140) C.1 dX6_findsEither_140 ?_
    refine gk_aload_n (pc := 141) C.1 0 dX6_findsEither_141 rfl rfl ?_
    refine tk_getI (pc := 142) C (k := 34) (by decide) (by decide) q2155 rfl dX6_findsEither_142 ?_
    obtain ⟨hi, hw⟩ := hw
    refine tk_ast (pc := 145) C (k := 32) (by decide) hi dX6_findsEither_145 (fun u_4 eu_4 => ?_)
    replace hw := hw u_4 eu_4
    refine gk_aload_n (pc := 146) C.1 0 dX6_findsEither_146 rfl rfl ?_
    refine gk_aload_n (pc := 147) C.1 0 dX6_findsEither_147 rfl rfl ?_
    refine tk_getA (pc := 148) C (k := 11) (by decide) (by decide) q2132 rfl dX6_findsEither_148 ?_
    refine gk_iload_n (pc := 151) C.1 1 dX6_findsEither_151 rfl rfl ?_
    obtain ⟨hi, hw⟩ := hw
    refine tk_ald (pc := 152) C (k := 11) (by decide) hi dX6_findsEither_152 ?_
    refine gk_iload_n (pc := 153) C.1 2 dX6_findsEither_153 rfl rfl ?_
    refine tk_callV (pc := 154) (y := yX6_looks) (n := 2) (As := [.int (u_4.1 11 x1.toNatClampNeg), .int x2]) (rest := []) C (wk_looks (ev_l X) hG hw) q2465 q2467 qs99 q2468 ⟨rfl, by decide +kernel⟩ ⟨by decide, by decide⟩ rfl rfl (Nat.le_of_ble_eq_true rfl) dX6_findsEither_154 (fun v9 u_5 hp => ?_)
    obtain ⟨rfl, hw⟩ := hp
    refine GK.at (p2 := 157) rfl ?_
    refine gk_goto (pc := 157) (tgt := 164) C.1 dX6_findsEither_157 (by decide) ?_
    exact tk_vret (pc := 164) C hret dX6_findsEither_164 hw
def wt_findsEither (k : TS → Prop) (x1 : Int32) (x2 : Int32) (u : TS) : Prop := vp_in ((u.2 35) - 1) 400 ∧ (∀ x_1 : Int32, x_1 = u.1 28 ((u.2 35) - 1).toNatClampNeg → (vp_in ((u.2 35) - 1) 400 ∧ (vp_in ((u.2 35) - 1) 400 ∧ (∀ u_2 : TS, u_2 = tpA u 28 ((u.2 35) - 1).toNatClampNeg ((u.1 28 ((u.2 35) - 1).toNatClampNeg) + 1) → (((¬ x_1 = 0 → (((¬ x_1 = 1 → (wt_findsEither_111 k x1 x2 x_1 u_2)) ∧ (x_1 = 1 → (vp_in ((u_2.2 35) - 1) 400 ∧ (((¬ (u_2.2 33) = (u_2.1 29 ((u_2.2 35) - 1).toNatClampNeg) → (wt_findsEither_111 k x1 x2 x_1 u_2)) ∧ ((u_2.2 33) = (u_2.1 29 ((u_2.2 35) - 1).toNatClampNeg) → (∀ u_6 : TS, u_6 = tpI u_2 35 ((u_2.2 35) - 1) → (k u_6)))))))))) ∧ (x_1 = 0 → (vp_in ((u_2.2 35) - 1) 400 ∧ (∀ u_7 : TS, u_7 = tpA u_2 29 ((u_2.2 35) - 1).toNatClampNeg (u_2.2 33) → (vp_in ((u_7.2 35) - 1) 400 ∧ (∀ u_8 : TS, u_8 = tpA u_7 30 ((u_7.2 35) - 1).toNatClampNeg (u_7.2 34) → (vp_in x1 25 ∧ (wt_looks (fun u_9 => k u_9) (u_8.1 10 x1.toNatClampNeg) x2 u_8)))))))))))))
theorem wk_findsEither (l : Launch) {G : TG} (hG : TD G) {k : TS → Prop} {x1 : Int32} {x2 : Int32} {u : TS} (hw : wt_findsEither k x1 x2 u) : TMet l yX6_findsEither cX6_findsEither 4 (none) 3 G [.ref G.2.2.1, .int x1, .int x2] u (tV k) := by
  refine tk_met hG rfl (Nat.le_of_ble_eq_true rfl) (fun X hXl hXn hret C => ?_)
  subst hXl
  unfold wt_findsEither at hw
  refine GK.sub (lv' := [(0, .ref G.2.2.1), (1, .int x1), (2, .int x2)]) [0, 1, 2] rfl ?_
  refine gk_aload_n (pc := 0) C.1 0 dX6_findsEither_0 rfl rfl ?_
  refine tk_getA (pc := 1) C (k := 28) (by decide) (by decide) q2149 rfl dX6_findsEither_1 ?_
  refine gk_aload_n (pc := 4) C.1 0 dX6_findsEither_4 rfl rfl ?_
  refine tk_getI (pc := 5) C (k := 35) (by decide) (by decide) q2156 rfl dX6_findsEither_5 ?_
  refine gk_iconst (pc := 8) (v := 1) C.1 dX6_findsEither_8 (by decide) ?_
  refine gk_isub (pc := 9) C.1 dX6_findsEither_9 ?_
  obtain ⟨hi, hw⟩ := hw
  refine tk_ald (pc := 10) C (k := 28) (by decide) hi dX6_findsEither_10 ?_
  obtain ⟨x_1, ex_1⟩ : ∃ z : Int32, z = u.1 28 ((u.2 35) - 1).toNatClampNeg := ⟨_, rfl⟩
  rw [← ex_1]
  replace hw := hw x_1 ex_1
  refine gk_istore_n (pc := 11) (lv' := [(3, Value.int x_1), (0, Value.ref G.2.2.1), (1, Value.int x1), (2, Value.int x2)]) C.1 dX6_findsEither_11 rfl (by rw [hXn]; decide) rfl ?_
  refine gk_aload_n (pc := 12) C.1 1 dX6_findsEither_12 rfl rfl ?_
  refine tk_getA (pc := 13) C (k := 28) (by decide) (by decide) q2149 rfl dX6_findsEither_13 ?_
  refine gk_aload_n (pc := 16) C.1 1 dX6_findsEither_16 rfl rfl ?_
  refine tk_getI (pc := 17) C (k := 35) (by decide) (by decide) q2156 rfl dX6_findsEither_17 ?_
  refine gk_iconst (pc := 20) (v := 1) C.1 dX6_findsEither_20 (by decide) ?_
  refine gk_isub (pc := 21) C.1 dX6_findsEither_21 ?_
  refine gk_dup2 (pc := 22) C.1 dX6_findsEither_22 rfl rfl ?_
  obtain ⟨hi, hw⟩ := hw
  refine tk_ald (pc := 23) C (k := 28) (by decide) hi dX6_findsEither_23 ?_
  refine gk_iconst (pc := 24) (v := 1) C.1 dX6_findsEither_24 (by decide) ?_
  refine gk_iadd (pc := 25) C.1 dX6_findsEither_25 ?_
  obtain ⟨hi, hw⟩ := hw
  refine tk_ast (pc := 26) C (k := 28) (by decide) hi dX6_findsEither_26 (fun u_2 eu_2 => ?_)
  replace hw := hw u_2 eu_2
  refine gk_iload_n (pc := 27) C.1 0 dX6_findsEither_27 rfl rfl ?_
  refine gk_if_ne (pc := 28) (tgt := 75) C.1 dX6_findsEither_28 (by decide) (fun c_3 => ?_) (fun c_3 => ?_)
  · replace hw := hw.1 c_3
    refine gk_iload_n (pc := 75) C.1 0 dX6_findsEither_75 rfl rfl ?_
    refine gk_iconst (pc := 76) (v := 1) C.1 dX6_findsEither_76 (by decide) ?_
    refine gk_icmp_ne (pc := 77) (tgt := 111) C.1 dX6_findsEither_77 (by decide) (fun c_4 => ?_) (fun c_4 => ?_)
    · replace hw := hw.1 c_4
      refine GK.sub (lv' := [(0, .ref G.2.2.1), (1, .int x1), (2, .int x2), (3, .int x_1)]) [1, 2, 3, 0] rfl ?_
      exact kt_findsEither_111 C hG hret hXn  _ _ _ _ hw
    · replace hw := hw.2 c_4
      refine gk_aload_n (pc := 80) C.1 1 dX6_findsEither_80 rfl rfl ?_
      refine tk_getI (pc := 81) C (k := 33) (by decide) (by decide) q2154 rfl dX6_findsEither_81 ?_
      refine gk_aload_n (pc := 84) C.1 1 dX6_findsEither_84 rfl rfl ?_
      refine tk_getA (pc := 85) C (k := 29) (by decide) (by decide) q2150 rfl dX6_findsEither_85 ?_
      refine gk_aload_n (pc := 88) C.1 1 dX6_findsEither_88 rfl rfl ?_
      refine tk_getI (pc := 89) C (k := 35) (by decide) (by decide) q2156 rfl dX6_findsEither_89 ?_
      refine gk_iconst (pc := 92) (v := 1) C.1 dX6_findsEither_92 (by decide) ?_
      refine gk_isub (pc := 93) C.1 dX6_findsEither_93 ?_
      obtain ⟨hi, hw⟩ := hw
      refine tk_ald (pc := 94) C (k := 29) (by decide) hi dX6_findsEither_94 ?_
      refine gk_icmp_ne (pc := 95) (tgt := 111) C.1 dX6_findsEither_95 (by decide) (fun c_5 => ?_) (fun c_5 => ?_)
      · replace hw := hw.1 c_5
        refine GK.sub (lv' := [(0, .ref G.2.2.1), (1, .int x1), (2, .int x2), (3, .int x_1)]) [1, 2, 3, 0] rfl ?_
        exact kt_findsEither_111 C hG hret hXn  _ _ _ _ hw
      · replace hw := hw.2 c_5
        refine gk_aload_n (pc := 98) C.1 1 dX6_findsEither_98 rfl rfl ?_
        refine gk_dup (pc := 99) C.1 dX6_findsEither_99 rfl ?_
        refine tk_getI (pc := 100) C (k := 35) (by decide) (by decide) q2156 rfl dX6_findsEither_100 ?_
        refine gk_iconst (pc := 103) (v := 1) C.1 dX6_findsEither_103 (by decide) ?_
        refine gk_isub (pc := 104) C.1 dX6_findsEither_104 ?_
        refine tk_putI (pc := 105) C (k := 35) (by decide) (by decide) q2156 rfl rfl (ty := .int) rfl rfl rfl dX6_findsEither_105 (fun u_6 eu_6 => ?_)
        replace hw := hw u_6 eu_6
        refine gk_goto (pc := 108) (tgt := 164) C.1 dX6_findsEither_108 (by decide) ?_
        exact tk_vret (pc := 164) C hret dX6_findsEither_164 hw
  · replace hw := hw.2 c_3
    refine gk_aload_n (pc := 31) C.1 1 dX6_findsEither_31 rfl rfl ?_
    refine tk_getA (pc := 32) C (k := 29) (by decide) (by decide) q2150 rfl dX6_findsEither_32 ?_
    refine gk_aload_n (pc := 35) C.1 1 dX6_findsEither_35 rfl rfl ?_
    refine tk_getI (pc := 36) C (k := 35) (by decide) (by decide) q2156 rfl dX6_findsEither_36 ?_
    refine gk_iconst (pc := 39) (v := 1) C.1 dX6_findsEither_39 (by decide) ?_
    refine gk_isub (pc := 40) C.1 dX6_findsEither_40 ?_
    refine gk_aload_n (pc := 41) C.1 1 dX6_findsEither_41 rfl rfl ?_
    refine tk_getI (pc := 42) C (k := 33) (by decide) (by decide) q2154 rfl dX6_findsEither_42 ?_
    obtain ⟨hi, hw⟩ := hw
    refine tk_ast (pc := 45) C (k := 29) (by decide) hi dX6_findsEither_45 (fun u_7 eu_7 => ?_)
    replace hw := hw u_7 eu_7
    refine gk_aload_n (pc := 46) C.1 1 dX6_findsEither_46 rfl rfl ?_
    refine tk_getA (pc := 47) C (k := 30) (by decide) (by decide) q2151 rfl dX6_findsEither_47 ?_
    refine gk_aload_n (pc := 50) C.1 1 dX6_findsEither_50 rfl rfl ?_
    refine tk_getI (pc := 51) C (k := 35) (by decide) (by decide) q2156 rfl dX6_findsEither_51 ?_
    refine gk_iconst (pc := 54) (v := 1) C.1 dX6_findsEither_54 (by decide) ?_
    refine gk_isub (pc := 55) C.1 dX6_findsEither_55 ?_
    refine gk_aload_n (pc := 56) C.1 1 dX6_findsEither_56 rfl rfl ?_
    refine tk_getI (pc := 57) C (k := 34) (by decide) (by decide) q2155 rfl dX6_findsEither_57 ?_
    obtain ⟨hi, hw⟩ := hw
    refine tk_ast (pc := 60) C (k := 30) (by decide) hi dX6_findsEither_60 (fun u_8 eu_8 => ?_)
    replace hw := hw u_8 eu_8
    refine gk_aload_n (pc := 61) C.1 1 dX6_findsEither_61 rfl rfl ?_
    refine gk_aload_n (pc := 62) C.1 1 dX6_findsEither_62 rfl rfl ?_
    refine tk_getA (pc := 63) C (k := 10) (by decide) (by decide) q2131 rfl dX6_findsEither_63 ?_
    refine gk_iload_n (pc := 66) C.1 2 dX6_findsEither_66 rfl rfl ?_
    obtain ⟨hi, hw⟩ := hw
    refine tk_ald (pc := 67) C (k := 10) (by decide) hi dX6_findsEither_67 ?_
    refine gk_iload_n (pc := 68) C.1 3 dX6_findsEither_68 rfl rfl ?_
    refine tk_callV (pc := 69) (y := yX6_looks) (n := 2) (As := [.int (u_8.1 10 x1.toNatClampNeg), .int x2]) (rest := []) C (wk_looks (ev_l X) hG hw) q2465 q2467 qs99 q2468 ⟨rfl, by decide +kernel⟩ ⟨by decide, by decide⟩ rfl rfl (Nat.le_of_ble_eq_true rfl) dX6_findsEither_69 (fun v9 u_9 hp => ?_)
    obtain ⟨rfl, hw⟩ := hp
    refine GK.at (p2 := 72) rfl ?_
    refine gk_goto (pc := 72) (tgt := 164) C.1 dX6_findsEither_72 (by decide) ?_
    exact tk_vret (pc := 164) C hret dX6_findsEither_164 hw
/-! isIn(III)Z -/
def wt_isIn (k : Int32 → TS → Prop) (x0 : Int32) (x1 : Int32) (x2 : Int32) (u : TS) : Prop := ((x0 < x1 → (k 0 u)) ∧ (¬ x0 < x1 → (((x2 < x0 → (k 0 u)) ∧ (¬ x2 < x0 → (k 1 u))))))
theorem wk_isIn (l : Launch) {G : TG} (hG : TD G) {k : Int32 → TS → Prop} {x0 : Int32} {x1 : Int32} {x2 : Int32} {u : TS} (hw : wt_isIn k x0 x1 x2 u) : TMet l yX6_isIn cX6_isIn 3 (some .boolean) 1 G [.int x0, .int x1, .int x2] u (tI k) := by
  refine tk_met hG rfl (Nat.le_of_ble_eq_true rfl) (fun X hXl hXn hret C => ?_)
  subst hXl
  unfold wt_isIn at hw
  refine GK.sub (lv' := [(0, .int x0), (1, .int x1), (2, .int x2)]) [0, 1, 2] rfl ?_
  refine gk_iload_n (pc := 0) C.1 0 dX6_isIn_0 rfl rfl ?_
  refine gk_iload_n (pc := 1) C.1 1 dX6_isIn_1 rfl rfl ?_
  refine gk_icmp_lt (pc := 2) (tgt := 14) C.1 dX6_isIn_2 (by decide) (fun c_1 => ?_) (fun c_1 => ?_)
  · replace hw := hw.1 c_1
    refine gk_iconst (pc := 14) (v := 0) C.1 dX6_isIn_14 (by decide) ?_
    exact tk_zret (pc := 15) C hret dX6_isIn_15 bz0 hw
  · replace hw := hw.2 c_1
    refine gk_iload_n (pc := 5) C.1 0 dX6_isIn_5 rfl rfl ?_
    refine gk_iload_n (pc := 6) C.1 2 dX6_isIn_6 rfl rfl ?_
    refine gk_icmp_gt (pc := 7) (tgt := 14) C.1 dX6_isIn_7 (by decide) (fun c_2 => ?_) (fun c_2 => ?_)
    · replace hw := hw.1 c_2
      refine gk_iconst (pc := 14) (v := 0) C.1 dX6_isIn_14 (by decide) ?_
      exact tk_zret (pc := 15) C hret dX6_isIn_15 bz0 hw
    · replace hw := hw.2 c_2
      refine gk_iconst (pc := 10) (v := 1) C.1 dX6_isIn_10 (by decide) ?_
      refine gk_goto (pc := 11) (tgt := 15) C.1 dX6_isIn_11 (by decide) ?_
      exact tk_zret (pc := 15) C hret dX6_isIn_15 bz1 hw
/-! findsList(II)V -/
def wt_findsList_89 (k : TS → Prop) (x1 : Int32) (x2 : Int32) (x3 : Int32) (u : TS) : Prop := vp_in x2 21 ∧ (((¬ x3 = (u.1 2 x2.toNatClampNeg) → (vp_in ((u.2 35) - 1) 400 ∧ (vp_in ((u.2 35) - 1) 400 ∧ (∀ u_2 : TS, u_2 = tpA u 28 ((u.2 35) - 1).toNatClampNeg ((u.1 28 ((u.2 35) - 1).toNatClampNeg) + 1) → (vp_in x1 25 ∧ (wt_childOf (fun r_4 u_3 => wt_looks (fun u_5 => k u_5) (u_2.1 10 x1.toNatClampNeg) r_4 u_3) x2 x3 u_2)))))) ∧ (x3 = (u.1 2 x2.toNatClampNeg) → (∀ u_6 : TS, u_6 = tpI u 35 ((u.2 35) - 1) → (k u_6)))))
theorem kt_findsList_89 {X : Ev} {G : TG} {k : TS → Prop} (C : TC X G cX6_findsList 2) (hG : TD G) (hret : (ev_h X).sig.returnType = none) (hXn : ev_n X = 4) : ∀ (x1 : Int32) (x2 : Int32) (x3 : Int32) (u : TS), wt_findsList_89 k x1 x2 x3 u → GK X (TP G u) 0 0 (tQ X G (tV k)) 89 [(0, .ref G.2.2.1), (1, .int x1), (2, .int x2), (3, .int x3)] [] := by
  intro x1 x2 x3 u hw
  unfold wt_findsList_89 at hw
  refine gk_iload_n (pc := 89) C.1 3 dX6_findsList_89 rfl rfl ?_
  refine gk_aload_n (pc := 90) C.1 0 dX6_findsList_90 rfl rfl ?_
  refine tk_getA (pc := 91) C (k := 2) (by decide) (by decide) q2123 rfl dX6_findsList_91 ?_
  refine gk_iload_n (pc := 94) C.1 2 dX6_findsList_94 rfl rfl ?_
  obtain ⟨hi, hw⟩ := hw
  refine tk_ald (pc := 95) C (k := 2) (by decide) hi dX6_findsList_95 ?_
  refine gk_icmp_ne (pc := 96) (tgt := 110) C.1 dX6_findsList_96 (by decide) (fun c_1 => ?_) (fun c_1 => ?_)
  · replace hw := hw.1 c_1
    refine gk_aload_n (pc := 110) C.1 0 dX6_findsList_110 rfl rfl ?_
    refine tk_getA (pc := 111) C (k := 28) (by decide) (by decide) q2149 rfl dX6_findsList_111 ?_
    refine gk_aload_n (pc := 114) C.1 0 dX6_findsList_114 rfl rfl ?_
    refine tk_getI (pc := 115) C (k := 35) (by decide) (by decide) q2156 rfl dX6_findsList_115 ?_
    refine gk_iconst (pc := 118) (v := 1) C.1 dX6_findsList_118 (by decide) ?_
    refine gk_isub (pc := 119) C.1 dX6_findsList_119 ?_
    refine gk_dup2 (pc := 120) C.1 dX6_findsList_120 rfl rfl ?_
    obtain ⟨hi, hw⟩ := hw
    refine tk_ald (pc := 121) C (k := 28) (by decide) hi dX6_findsList_121 ?_
    refine gk_iconst (pc := 122) (v := 1) C.1 dX6_findsList_122 (by decide) ?_
    refine gk_iadd (pc := 123) C.1 dX6_findsList_123 ?_
    obtain ⟨hi, hw⟩ := hw
    refine tk_ast (pc := 124) C (k := 28) (by decide) hi dX6_findsList_124 (fun u_2 eu_2 => ?_)
    replace hw := hw u_2 eu_2
    refine gk_aload_n (pc := 125) C.1 0 dX6_findsList_125 rfl rfl ?_
    refine gk_aload_n (pc := 126) C.1 0 dX6_findsList_126 rfl rfl ?_
    refine tk_getA (pc := 127) C (k := 10) (by decide) (by decide) q2131 rfl dX6_findsList_127 ?_
    refine gk_iload_n (pc := 130) C.1 1 dX6_findsList_130 rfl rfl ?_
    obtain ⟨hi, hw⟩ := hw
    refine tk_ald (pc := 131) C (k := 10) (by decide) hi dX6_findsList_131 ?_
    refine gk_aload_n (pc := 132) C.1 0 dX6_findsList_132 rfl rfl ?_
    refine gk_iload_n (pc := 133) C.1 2 dX6_findsList_133 rfl rfl ?_
    refine gk_iload_n (pc := 134) C.1 3 dX6_findsList_134 rfl rfl ?_
    refine tk_callV (pc := 135) (y := yX6_childOf) (n := 2) (As := [.int x2, .int x3]) (rest := [.int (u_2.1 10 x1.toNatClampNeg), .ref G.2.2.1]) C (wk_childOf (ev_l X) hG hw) q2505 q2507 qs109 q2508 ⟨rfl, by decide +kernel⟩ ⟨by decide, by decide⟩ rfl rfl (Nat.le_of_ble_eq_true rfl) dX6_findsList_135 (fun v9 u_3 hp => ?_)
    obtain ⟨r_4, rfl, hw⟩ := hp
    refine GK.at (p2 := 138) rfl ?_
    refine tk_callV (pc := 138) (y := yX6_looks) (n := 2) (As := [.int (u_2.1 10 x1.toNatClampNeg), .int r_4]) (rest := []) C (wk_looks (ev_l X) hG hw) q2465 q2467 qs99 q2468 ⟨rfl, by decide +kernel⟩ ⟨by decide, by decide⟩ rfl rfl (Nat.le_of_ble_eq_true rfl) dX6_findsList_138 (fun v9 u_5 hp => ?_)
    obtain ⟨rfl, hw⟩ := hp
    refine GK.at (p2 := 141) rfl ?_
    exact tk_vret (pc := 141) C hret dX6_findsList_141 hw
  · replace hw := hw.2 c_1
    refine gk_aload_n (pc := 99) C.1 0 dX6_findsList_99 rfl rfl ?_
    refine gk_dup (pc := 100) C.1 dX6_findsList_100 rfl ?_
    refine tk_getI (pc := 101) C (k := 35) (by decide) (by decide) q2156 rfl dX6_findsList_101 ?_
    refine gk_iconst (pc := 104) (v := 1) C.1 dX6_findsList_104 (by decide) ?_
    refine gk_isub (pc := 105) C.1 dX6_findsList_105 ?_
    refine tk_putI (pc := 106) C (k := 35) (by decide) (by decide) q2156 rfl rfl (ty := .int) rfl rfl rfl dX6_findsList_106 (fun u_6 eu_6 => ?_)
    replace hw := hw u_6 eu_6
    exact tk_vret (pc := 109) C hret dX6_findsList_109 hw
def wt_findsList_49 (k : TS → Prop) (x1 : Int32) (x2 : Int32) (x3 : Int32) (u : TS) : Prop := ((¬ x3 = 0 → (wt_findsList_89 k x1 x2 x3 u)) ∧ (x3 = 0 → (vp_in x2 21 ∧ (vp_in x1 25 ∧ (vp_in x1 25 ∧ (wt_isIn (fun r_3 u_2 => ((¬ r_3 = 0 → (wt_findsList_89 k x1 x2 x3 u_2)) ∧ (r_3 = 0 → (vp_in x2 21 ∧ (wt_finds (fun u_5 => wt_findsList_89 k x1 x2 x3 u_5) (u_2.1 5 x2.toNatClampNeg) 11 u_2))))) (u.1 2 x2.toNatClampNeg) (u.1 8 x1.toNatClampNeg) (u.1 9 x1.toNatClampNeg) u))))))
theorem kt_findsList_49 {X : Ev} {G : TG} {k : TS → Prop} (C : TC X G cX6_findsList 2) (hG : TD G) (hret : (ev_h X).sig.returnType = none) (hXn : ev_n X = 4) : ∀ (x1 : Int32) (x2 : Int32) (x3 : Int32) (u : TS), wt_findsList_49 k x1 x2 x3 u → GK X (TP G u) 0 0 (tQ X G (tV k)) 49 [(0, .ref G.2.2.1), (1, .int x1), (2, .int x2), (3, .int x3)] [] := by
  intro x1 x2 x3 u hw
  unfold wt_findsList_49 at hw
  refine gk_iload_n (pc := 49) C.1 3 dX6_findsList_49 rfl rfl ?_
  refine gk_if_ne (pc := 50) (tgt := 89) C.1 dX6_findsList_50 (by decide) (fun c_1 => ?_) (fun c_1 => ?_)
  · replace hw := hw.1 c_1
    refine GK.sub (lv' := [(0, .ref G.2.2.1), (1, .int x1), (2, .int x2), (3, .int x3)]) [0, 1, 2, 3] rfl ?_
    exact kt_findsList_89 C hG hret hXn  _ _ _ _ hw
  · replace hw := hw.2 c_1
    refine gk_aload_n (pc := 53) C.1 0 dX6_findsList_53 rfl rfl ?_
    refine tk_getA (pc := 54) C (k := 2) (by decide) (by decide) q2123 rfl dX6_findsList_54 ?_
    refine gk_iload_n (pc := 57) C.1 2 dX6_findsList_57 rfl rfl ?_
    obtain ⟨hi, hw⟩ := hw
    refine tk_ald (pc := 58) C (k := 2) (by decide) hi dX6_findsList_58 ?_
    refine gk_aload_n (pc := 59) C.1 0 dX6_findsList_59 rfl rfl ?_
    refine tk_getA (pc := 60) C (k := 8) (by decide) (by decide) q2129 rfl dX6_findsList_60 ?_
    refine gk_iload_n (pc := 63) C.1 1 dX6_findsList_63 rfl rfl ?_
    obtain ⟨hi, hw⟩ := hw
    refine tk_ald (pc := 64) C (k := 8) (by decide) hi dX6_findsList_64 ?_
    refine gk_aload_n (pc := 65) C.1 0 dX6_findsList_65 rfl rfl ?_
    refine tk_getA (pc := 66) C (k := 9) (by decide) (by decide) q2130 rfl dX6_findsList_66 ?_
    refine gk_iload_n (pc := 69) C.1 1 dX6_findsList_69 rfl rfl ?_
    obtain ⟨hi, hw⟩ := hw
    refine tk_ald (pc := 70) C (k := 9) (by decide) hi dX6_findsList_70 ?_
    refine tk_callS (pc := 71) (y := yX6_isIn) (n := 3) (As := [.int (u.1 2 x2.toNatClampNeg), .int (u.1 8 x1.toNatClampNeg), .int (u.1 9 x1.toNatClampNeg)]) (rest := []) C (wk_isIn (ev_l X) hG hw) q2323 q2324 q2325 ⟨rfl, by decide +kernel⟩ ⟨by decide, by decide⟩ rfl rfl (Nat.le_of_ble_eq_true rfl) dX6_findsList_71 (fun v9 u_2 hp => ?_)
    obtain ⟨r_3, rfl, hw⟩ := hp
    refine GK.at (p2 := 74) rfl ?_
    refine gk_if_ne (pc := 74) (tgt := 89) C.1 dX6_findsList_74 (by decide) (fun c_4 => ?_) (fun c_4 => ?_)
    · replace hw := hw.1 c_4
      refine GK.sub (lv' := [(0, .ref G.2.2.1), (1, .int x1), (2, .int x2), (3, .int x3)]) [0, 1, 2, 3] rfl ?_
      exact kt_findsList_89 C hG hret hXn  _ _ _ _ hw
    · replace hw := hw.2 c_4
      refine gk_aload_n (pc := 77) C.1 0 dX6_findsList_77 rfl rfl ?_
      refine gk_aload_n (pc := 78) C.1 0 dX6_findsList_78 rfl rfl ?_
      refine tk_getA (pc := 79) C (k := 5) (by decide) (by decide) q2126 rfl dX6_findsList_79 ?_
      refine gk_iload_n (pc := 82) C.1 2 dX6_findsList_82 rfl rfl ?_
      obtain ⟨hi, hw⟩ := hw
      refine tk_ald (pc := 83) C (k := 5) (by decide) hi dX6_findsList_83 ?_
      refine gk_bipush (pc := 84) (v := 11) C.1 dX6_findsList_84 (by decide) ?_
      refine tk_callV (pc := 86) (y := yX6_finds) (n := 2) (As := [.int (u_2.1 5 x2.toNatClampNeg), .int 11]) (rest := []) C (wk_finds (ev_l X) hG hw) q2477 q2479 qs102 q2480 ⟨rfl, by decide +kernel⟩ ⟨by decide, by decide⟩ rfl rfl (Nat.le_of_ble_eq_true rfl) dX6_findsList_86 (fun v9 u_5 hp => ?_)
      obtain ⟨rfl, hw⟩ := hp
      refine GK.at (p2 := 89) rfl ?_
      refine GK.sub (lv' := [(0, .ref G.2.2.1), (1, .int x1), (2, .int x2), (3, .int x3)]) [0, 1, 2, 3] rfl ?_
      exact kt_findsList_89 C hG hret hXn  _ _ _ _ hw
def wt_findsList (k : TS → Prop) (x1 : Int32) (x2 : Int32) (u : TS) : Prop := vp_in ((u.2 35) - 1) 400 ∧ (∀ x_1 : Int32, x_1 = u.1 28 ((u.2 35) - 1).toNatClampNeg → (((¬ x_1 = 0 → (wt_findsList_49 k x1 x2 x_1 u)) ∧ (x_1 = 0 → (vp_in x2 21 ∧ ((((u.1 1 x2.toNatClampNeg) = 3 → (wt_findsList_49 k x1 x2 x_1 u)) ∧ (¬ (u.1 1 x2.toNatClampNeg) = 3 → (∀ u_4 : TS, u_4 = tpI u 35 ((u.2 35) - 1) → (vp_in x2 21 ∧ (wt_finds (fun u_5 => k u_5) (u_4.1 5 x2.toNatClampNeg) 10 u_4)))))))))))
theorem wk_findsList (l : Launch) {G : TG} (hG : TD G) {k : TS → Prop} {x1 : Int32} {x2 : Int32} {u : TS} (hw : wt_findsList k x1 x2 u) : TMet l yX6_findsList cX6_findsList 4 (none) 2 G [.ref G.2.2.1, .int x1, .int x2] u (tV k) := by
  refine tk_met hG rfl (Nat.le_of_ble_eq_true rfl) (fun X hXl hXn hret C => ?_)
  subst hXl
  unfold wt_findsList at hw
  refine GK.sub (lv' := [(0, .ref G.2.2.1), (1, .int x1), (2, .int x2)]) [0, 1, 2] rfl ?_
  refine gk_aload_n (pc := 0) C.1 0 dX6_findsList_0 rfl rfl ?_
  refine tk_getA (pc := 1) C (k := 28) (by decide) (by decide) q2149 rfl dX6_findsList_1 ?_
  refine gk_aload_n (pc := 4) C.1 0 dX6_findsList_4 rfl rfl ?_
  refine tk_getI (pc := 5) C (k := 35) (by decide) (by decide) q2156 rfl dX6_findsList_5 ?_
  refine gk_iconst (pc := 8) (v := 1) C.1 dX6_findsList_8 (by decide) ?_
  refine gk_isub (pc := 9) C.1 dX6_findsList_9 ?_
  obtain ⟨hi, hw⟩ := hw
  refine tk_ald (pc := 10) C (k := 28) (by decide) hi dX6_findsList_10 ?_
  obtain ⟨x_1, ex_1⟩ : ∃ z : Int32, z = u.1 28 ((u.2 35) - 1).toNatClampNeg := ⟨_, rfl⟩
  rw [← ex_1]
  replace hw := hw x_1 ex_1
  refine gk_istore_n (pc := 11) (lv' := [(3, Value.int x_1), (0, Value.ref G.2.2.1), (1, Value.int x1), (2, Value.int x2)]) C.1 dX6_findsList_11 rfl (by rw [hXn]; decide) rfl ?_
  refine gk_iload_n (pc := 12) C.1 0 dX6_findsList_12 rfl rfl ?_
  refine gk_if_ne (pc := 13) (tgt := 49) C.1 dX6_findsList_13 (by decide) (fun c_2 => ?_) (fun c_2 => ?_)
  · replace hw := hw.1 c_2
    refine GK.sub (lv' := [(0, .ref G.2.2.1), (1, .int x1), (2, .int x2), (3, .int x_1)]) [1, 2, 3, 0] rfl ?_
    exact kt_findsList_49 C hG hret hXn  _ _ _ _ hw
  · replace hw := hw.2 c_2
    refine gk_aload_n (pc := 16) C.1 1 dX6_findsList_16 rfl rfl ?_
    refine tk_getA (pc := 17) C (k := 1) (by decide) (by decide) q2122 rfl dX6_findsList_17 ?_
    refine gk_iload_n (pc := 20) C.1 3 dX6_findsList_20 rfl rfl ?_
    obtain ⟨hi, hw⟩ := hw
    refine tk_ald (pc := 21) C (k := 1) (by decide) hi dX6_findsList_21 ?_
    refine gk_iconst (pc := 22) (v := 3) C.1 dX6_findsList_22 (by decide) ?_
    refine gk_icmp_eq (pc := 23) (tgt := 49) C.1 dX6_findsList_23 (by decide) (fun c_3 => ?_) (fun c_3 => ?_)
    · replace hw := hw.1 c_3
      refine GK.sub (lv' := [(0, .ref G.2.2.1), (1, .int x1), (2, .int x2), (3, .int x_1)]) [1, 2, 3, 0] rfl ?_
      exact kt_findsList_49 C hG hret hXn  _ _ _ _ hw
    · replace hw := hw.2 c_3
      refine gk_aload_n (pc := 26) C.1 1 dX6_findsList_26 rfl rfl ?_
      refine gk_dup (pc := 27) C.1 dX6_findsList_27 rfl ?_
      refine tk_getI (pc := 28) C (k := 35) (by decide) (by decide) q2156 rfl dX6_findsList_28 ?_
      refine gk_iconst (pc := 31) (v := 1) C.1 dX6_findsList_31 (by decide) ?_
      refine gk_isub (pc := 32) C.1 dX6_findsList_32 ?_
      refine tk_putI (pc := 33) C (k := 35) (by decide) (by decide) q2156 rfl rfl (ty := .int) rfl rfl rfl dX6_findsList_33 (fun u_4 eu_4 => ?_)
      replace hw := hw u_4 eu_4
      refine gk_aload_n (pc := 36) C.1 1 dX6_findsList_36 rfl rfl ?_
      refine gk_aload_n (pc := 37) C.1 1 dX6_findsList_37 rfl rfl ?_
      refine tk_getA (pc := 38) C (k := 5) (by decide) (by decide) q2126 rfl dX6_findsList_38 ?_
      refine gk_iload_n (pc := 41) C.1 3 dX6_findsList_41 rfl rfl ?_
      obtain ⟨hi, hw⟩ := hw
      refine tk_ald (pc := 42) C (k := 5) (by decide) hi dX6_findsList_42 ?_
      refine gk_bipush (pc := 43) (v := 10) C.1 dX6_findsList_43 (by decide) ?_
      refine tk_callV (pc := 45) (y := yX6_finds) (n := 2) (As := [.int (u_4.1 5 x2.toNatClampNeg), .int 10]) (rest := []) C (wk_finds (ev_l X) hG hw) q2477 q2479 qs102 q2480 ⟨rfl, by decide +kernel⟩ ⟨by decide, by decide⟩ rfl rfl (Nat.le_of_ble_eq_true rfl) dX6_findsList_45 (fun v9 u_5 hp => ?_)
      obtain ⟨rfl, hw⟩ := hp
      refine GK.at (p2 := 48) rfl ?_
      exact tk_vret (pc := 48) C hret dX6_findsList_48 hw
/-! findsNumber(II)V -/
def wt_findsNumber (k : TS → Prop) (x1 : Int32) (x2 : Int32) (u : TS) : Prop := ∀ u_1 : TS, u_1 = tpI u 35 ((u.2 35) - 1) → (vp_in x2 21 ∧ ((((u_1.1 1 x2.toNatClampNeg) = 0 → (vp_in x2 21 ∧ (vp_in x1 25 ∧ ((((u_1.1 8 x1.toNatClampNeg) ≤ (u_1.1 2 x2.toNatClampNeg) → (vp_in x2 21 ∧ (vp_in x1 25 ∧ ((((u_1.1 2 x2.toNatClampNeg) ≤ (u_1.1 9 x1.toNatClampNeg) → (k u_1)) ∧ (¬ (u_1.1 2 x2.toNatClampNeg) ≤ (u_1.1 9 x1.toNatClampNeg) → (vp_in x2 21 ∧ (wt_finds (fun u_5 => k u_5) (u_1.1 5 x2.toNatClampNeg) 3 u_1)))))))) ∧ (¬ (u_1.1 8 x1.toNatClampNeg) ≤ (u_1.1 2 x2.toNatClampNeg) → (vp_in x2 21 ∧ (wt_finds (fun u_6 => k u_6) (u_1.1 5 x2.toNatClampNeg) 2 u_1)))))))) ∧ (¬ (u_1.1 1 x2.toNatClampNeg) = 0 → (vp_in x2 21 ∧ (wt_finds (fun u_7 => k u_7) (u_1.1 5 x2.toNatClampNeg) 1 u_1))))))
theorem wk_findsNumber (l : Launch) {G : TG} (hG : TD G) {k : TS → Prop} {x1 : Int32} {x2 : Int32} {u : TS} (hw : wt_findsNumber k x1 x2 u) : TMet l yX6_findsNumber cX6_findsNumber 3 (none) 2 G [.ref G.2.2.1, .int x1, .int x2] u (tV k) := by
  refine tk_met hG rfl (Nat.le_of_ble_eq_true rfl) (fun X hXl hXn hret C => ?_)
  subst hXl
  unfold wt_findsNumber at hw
  refine GK.sub (lv' := [(0, .ref G.2.2.1), (1, .int x1), (2, .int x2)]) [0, 1, 2] rfl ?_
  refine gk_aload_n (pc := 0) C.1 0 dX6_findsNumber_0 rfl rfl ?_
  refine gk_dup (pc := 1) C.1 dX6_findsNumber_1 rfl ?_
  refine tk_getI (pc := 2) C (k := 35) (by decide) (by decide) q2156 rfl dX6_findsNumber_2 ?_
  refine gk_iconst (pc := 5) (v := 1) C.1 dX6_findsNumber_5 (by decide) ?_
  refine gk_isub (pc := 6) C.1 dX6_findsNumber_6 ?_
  refine tk_putI (pc := 7) C (k := 35) (by decide) (by decide) q2156 rfl rfl (ty := .int) rfl rfl rfl dX6_findsNumber_7 (fun u_1 eu_1 => ?_)
  replace hw := hw u_1 eu_1
  refine gk_aload_n (pc := 10) C.1 0 dX6_findsNumber_10 rfl rfl ?_
  refine tk_getA (pc := 11) C (k := 1) (by decide) (by decide) q2122 rfl dX6_findsNumber_11 ?_
  refine gk_iload_n (pc := 14) C.1 2 dX6_findsNumber_14 rfl rfl ?_
  obtain ⟨hi, hw⟩ := hw
  refine tk_ald (pc := 15) C (k := 1) (by decide) hi dX6_findsNumber_15 ?_
  refine gk_if_eq (pc := 16) (tgt := 33) C.1 dX6_findsNumber_16 (by decide) (fun c_2 => ?_) (fun c_2 => ?_)
  · replace hw := hw.1 c_2
    refine gk_aload_n (pc := 33) C.1 0 dX6_findsNumber_33 rfl rfl ?_
    refine tk_getA (pc := 34) C (k := 2) (by decide) (by decide) q2123 rfl dX6_findsNumber_34 ?_
    refine gk_iload_n (pc := 37) C.1 2 dX6_findsNumber_37 rfl rfl ?_
    obtain ⟨hi, hw⟩ := hw
    refine tk_ald (pc := 38) C (k := 2) (by decide) hi dX6_findsNumber_38 ?_
    refine gk_aload_n (pc := 39) C.1 0 dX6_findsNumber_39 rfl rfl ?_
    refine tk_getA (pc := 40) C (k := 8) (by decide) (by decide) q2129 rfl dX6_findsNumber_40 ?_
    refine gk_iload_n (pc := 43) C.1 1 dX6_findsNumber_43 rfl rfl ?_
    obtain ⟨hi, hw⟩ := hw
    refine tk_ald (pc := 44) C (k := 8) (by decide) hi dX6_findsNumber_44 ?_
    refine gk_icmp_ge (pc := 45) (tgt := 62) C.1 dX6_findsNumber_45 (by decide) (fun c_3 => ?_) (fun c_3 => ?_)
    · replace hw := hw.1 c_3
      refine gk_aload_n (pc := 62) C.1 0 dX6_findsNumber_62 rfl rfl ?_
      refine tk_getA (pc := 63) C (k := 2) (by decide) (by decide) q2123 rfl dX6_findsNumber_63 ?_
      refine gk_iload_n (pc := 66) C.1 2 dX6_findsNumber_66 rfl rfl ?_
      obtain ⟨hi, hw⟩ := hw
      refine tk_ald (pc := 67) C (k := 2) (by decide) hi dX6_findsNumber_67 ?_
      refine gk_aload_n (pc := 68) C.1 0 dX6_findsNumber_68 rfl rfl ?_
      refine tk_getA (pc := 69) C (k := 9) (by decide) (by decide) q2130 rfl dX6_findsNumber_69 ?_
      refine gk_iload_n (pc := 72) C.1 1 dX6_findsNumber_72 rfl rfl ?_
      obtain ⟨hi, hw⟩ := hw
      refine tk_ald (pc := 73) C (k := 9) (by decide) hi dX6_findsNumber_73 ?_
      refine gk_icmp_le (pc := 74) (tgt := 88) C.1 dX6_findsNumber_74 (by decide) (fun c_4 => ?_) (fun c_4 => ?_)
      · replace hw := hw.1 c_4
        exact tk_vret (pc := 88) C hret dX6_findsNumber_88 hw
      · replace hw := hw.2 c_4
        refine gk_aload_n (pc := 77) C.1 0 dX6_findsNumber_77 rfl rfl ?_
        refine gk_aload_n (pc := 78) C.1 0 dX6_findsNumber_78 rfl rfl ?_
        refine tk_getA (pc := 79) C (k := 5) (by decide) (by decide) q2126 rfl dX6_findsNumber_79 ?_
        refine gk_iload_n (pc := 82) C.1 2 dX6_findsNumber_82 rfl rfl ?_
        obtain ⟨hi, hw⟩ := hw
        refine tk_ald (pc := 83) C (k := 5) (by decide) hi dX6_findsNumber_83 ?_
        refine gk_iconst (pc := 84) (v := 3) C.1 dX6_findsNumber_84 (by decide) ?_
        refine tk_callV (pc := 85) (y := yX6_finds) (n := 2) (As := [.int (u_1.1 5 x2.toNatClampNeg), .int 3]) (rest := []) C (wk_finds (ev_l X) hG hw) q2477 q2479 qs102 q2480 ⟨rfl, by decide +kernel⟩ ⟨by decide, by decide⟩ rfl rfl (Nat.le_of_ble_eq_true rfl) dX6_findsNumber_85 (fun v9 u_5 hp => ?_)
        obtain ⟨rfl, hw⟩ := hp
        refine GK.at (p2 := 88) rfl ?_
        exact tk_vret (pc := 88) C hret dX6_findsNumber_88 hw
    · replace hw := hw.2 c_3
      refine gk_aload_n (pc := 48) C.1 0 dX6_findsNumber_48 rfl rfl ?_
      refine gk_aload_n (pc := 49) C.1 0 dX6_findsNumber_49 rfl rfl ?_
      refine tk_getA (pc := 50) C (k := 5) (by decide) (by decide) q2126 rfl dX6_findsNumber_50 ?_
      refine gk_iload_n (pc := 53) C.1 2 dX6_findsNumber_53 rfl rfl ?_
      obtain ⟨hi, hw⟩ := hw
      refine tk_ald (pc := 54) C (k := 5) (by decide) hi dX6_findsNumber_54 ?_
      refine gk_iconst (pc := 55) (v := 2) C.1 dX6_findsNumber_55 (by decide) ?_
      refine tk_callV (pc := 56) (y := yX6_finds) (n := 2) (As := [.int (u_1.1 5 x2.toNatClampNeg), .int 2]) (rest := []) C (wk_finds (ev_l X) hG hw) q2477 q2479 qs102 q2480 ⟨rfl, by decide +kernel⟩ ⟨by decide, by decide⟩ rfl rfl (Nat.le_of_ble_eq_true rfl) dX6_findsNumber_56 (fun v9 u_6 hp => ?_)
      obtain ⟨rfl, hw⟩ := hp
      refine GK.at (p2 := 59) rfl ?_
      refine gk_goto (pc := 59) (tgt := 88) C.1 dX6_findsNumber_59 (by decide) ?_
      exact tk_vret (pc := 88) C hret dX6_findsNumber_88 hw
  · replace hw := hw.2 c_2
    refine gk_aload_n (pc := 19) C.1 0 dX6_findsNumber_19 rfl rfl ?_
    refine gk_aload_n (pc := 20) C.1 0 dX6_findsNumber_20 rfl rfl ?_
    refine tk_getA (pc := 21) C (k := 5) (by decide) (by decide) q2126 rfl dX6_findsNumber_21 ?_
    refine gk_iload_n (pc := 24) C.1 2 dX6_findsNumber_24 rfl rfl ?_
    obtain ⟨hi, hw⟩ := hw
    refine tk_ald (pc := 25) C (k := 5) (by decide) hi dX6_findsNumber_25 ?_
    refine gk_iconst (pc := 26) (v := 1) C.1 dX6_findsNumber_26 (by decide) ?_
    refine tk_callV (pc := 27) (y := yX6_finds) (n := 2) (As := [.int (u_1.1 5 x2.toNatClampNeg), .int 1]) (rest := []) C (wk_finds (ev_l X) hG hw) q2477 q2479 qs102 q2480 ⟨rfl, by decide +kernel⟩ ⟨by decide, by decide⟩ rfl rfl (Nat.le_of_ble_eq_true rfl) dX6_findsNumber_27 (fun v9 u_7 hp => ?_)
    obtain ⟨rfl, hw⟩ := hp
    refine GK.at (p2 := 30) rfl ?_
    refine gk_goto (pc := 30) (tgt := 88) C.1 dX6_findsNumber_30 (by decide) ?_
    exact tk_vret (pc := 88) C hret dX6_findsNumber_88 hw
/-! isToldField(II)Z -/
def wt_isToldField_32 (k : Int32 → TS → Prop) (J2 : Int32 → Int32 → Int32 → TS → Prop) (x1 : Int32) (x2 : Int32) (x3 : Int32) (u : TS) : Prop := ∀ x_1 : Int32, x_1 = x3 + 1 → (J2 x1 x2 x_1 u)
theorem kt_isToldField_32 {X : Ev} {G : TG} {k : Int32 → TS → Prop} {J2 : Int32 → Int32 → Int32 → TS → Prop} (C : TC X G cX6_isToldField 1) (hG : TD G) (hret : (ev_h X).sig.returnType = some .boolean) (hXn : ev_n X = 4) (hJ2 : ∀ (x1 : Int32) (x2 : Int32) (x3 : Int32) (u : TS), J2 x1 x2 x3 u → GK X (TP G u) 0 0 (tQ X G (tI k)) 2 [(0, .ref G.2.2.1), (1, .int x1), (2, .int x2), (3, .int x3)] []) : ∀ (x1 : Int32) (x2 : Int32) (x3 : Int32) (u : TS), wt_isToldField_32 k J2 x1 x2 x3 u → GK X (TP G u) 0 0 (tQ X G (tI k)) 32 [(0, .ref G.2.2.1), (1, .int x1), (2, .int x2), (3, .int x3)] [] := by
  intro x1 x2 x3 u hw
  unfold wt_isToldField_32 at hw
  obtain ⟨x_1, ex_1⟩ : ∃ z : Int32, z = x3 + 1 := ⟨_, rfl⟩
  replace hw := hw x_1 ex_1
  refine gk_iinc (pc := 32) (v := x_1) (lv' := [(3, Value.int x_1), (0, Value.ref G.2.2.1), (1, Value.int x1), (2, Value.int x2)]) C.1 3 dX6_isToldField_32 rfl (by rw [ex_1]; rfl) (by rw [hXn]; decide) rfl ?_
  refine gk_goto (pc := 35) (tgt := 2) C.1 dX6_isToldField_35 (by decide) ?_
  refine GK.sub (lv' := [(0, .ref G.2.2.1), (1, .int x1), (2, .int x2), (3, .int x_1)]) [1, 2, 3, 0] rfl ?_
  exact hJ2 _ _ _ _ hw
def wt_isToldField_2 (k : Int32 → TS → Prop) : Nat → Int32 → Int32 → Int32 → TS → Prop
  | 0 => fun _ _ _ _ => False
  | n + 1 => fun x1 x2 x3 u => (((u.2 21) ≤ x3 → (k 0 u)) ∧ (¬ (u.2 21) ≤ x3 → (vp_in x3 25 ∧ (((¬ (u.1 12 x3.toNatClampNeg) = x1 → (wt_isToldField_32 k (fun yx1 yx2 yx3 yu => wt_isToldField_2 k n yx1 yx2 yx3 yu) x1 x2 x3 u)) ∧ ((u.1 12 x3.toNatClampNeg) = x1 → (vp_in x3 25 ∧ (((¬ (u.1 13 x3.toNatClampNeg) = x2 → (wt_isToldField_32 k (fun yx1 yx2 yx3 yu => wt_isToldField_2 k n yx1 yx2 yx3 yu) x1 x2 x3 u)) ∧ ((u.1 13 x3.toNatClampNeg) = x2 → (k 1 u)))))))))))
theorem kt_isToldField_2 {X : Ev} {G : TG} {k : Int32 → TS → Prop} (C : TC X G cX6_isToldField 1) (hG : TD G) (hret : (ev_h X).sig.returnType = some .boolean) (hXn : ev_n X = 4) : ∀ (n : Nat) (x1 : Int32) (x2 : Int32) (x3 : Int32) (u : TS), wt_isToldField_2 k n x1 x2 x3 u → GK X (TP G u) 0 0 (tQ X G (tI k)) 2 [(0, .ref G.2.2.1), (1, .int x1), (2, .int x2), (3, .int x3)] [] := by
  intro n
  induction n with
  | zero => intro x1 x2 x3 u hw; exact hw.elim
  | succ n ih =>
  intro x1 x2 x3 u hw
  unfold wt_isToldField_2 at hw
  refine gk_iload_n (pc := 2) C.1 3 dX6_isToldField_2 rfl rfl ?_
  refine gk_aload_n (pc := 3) C.1 0 dX6_isToldField_3 rfl rfl ?_
  refine tk_getI (pc := 4) C (k := 21) (by decide) (by decide) q2142 rfl dX6_isToldField_4 ?_
  refine gk_icmp_ge (pc := 7) (tgt := 38) C.1 dX6_isToldField_7 (by decide) (fun c_1 => ?_) (fun c_1 => ?_)
  · replace hw := hw.1 c_1
    refine gk_iconst (pc := 38) (v := 0) C.1 dX6_isToldField_38 (by decide) ?_
    exact tk_zret (pc := 39) C hret dX6_isToldField_39 bz0 hw
  · replace hw := hw.2 c_1
    refine gk_aload_n (pc := 10) C.1 0 dX6_isToldField_10 rfl rfl ?_
    refine tk_getA (pc := 11) C (k := 12) (by decide) (by decide) q2133 rfl dX6_isToldField_11 ?_
    refine gk_iload_n (pc := 14) C.1 3 dX6_isToldField_14 rfl rfl ?_
    obtain ⟨hi, hw⟩ := hw
    refine tk_ald (pc := 15) C (k := 12) (by decide) hi dX6_isToldField_15 ?_
    refine gk_iload_n (pc := 16) C.1 1 dX6_isToldField_16 rfl rfl ?_
    refine gk_icmp_ne (pc := 17) (tgt := 32) C.1 dX6_isToldField_17 (by decide) (fun c_2 => ?_) (fun c_2 => ?_)
    · replace hw := hw.1 c_2
      refine GK.sub (lv' := [(0, .ref G.2.2.1), (1, .int x1), (2, .int x2), (3, .int x3)]) [0, 1, 2, 3] rfl ?_
      exact kt_isToldField_32 C hG hret hXn ih _ _ _ _ hw
    · replace hw := hw.2 c_2
      refine gk_aload_n (pc := 20) C.1 0 dX6_isToldField_20 rfl rfl ?_
      refine tk_getA (pc := 21) C (k := 13) (by decide) (by decide) q2134 rfl dX6_isToldField_21 ?_
      refine gk_iload_n (pc := 24) C.1 3 dX6_isToldField_24 rfl rfl ?_
      obtain ⟨hi, hw⟩ := hw
      refine tk_ald (pc := 25) C (k := 13) (by decide) hi dX6_isToldField_25 ?_
      refine gk_iload_n (pc := 26) C.1 2 dX6_isToldField_26 rfl rfl ?_
      refine gk_icmp_ne (pc := 27) (tgt := 32) C.1 dX6_isToldField_27 (by decide) (fun c_3 => ?_) (fun c_3 => ?_)
      · replace hw := hw.1 c_3
        refine GK.sub (lv' := [(0, .ref G.2.2.1), (1, .int x1), (2, .int x2), (3, .int x3)]) [0, 1, 2, 3] rfl ?_
        exact kt_isToldField_32 C hG hret hXn ih _ _ _ _ hw
      · replace hw := hw.2 c_3
        refine gk_iconst (pc := 30) (v := 1) C.1 dX6_isToldField_30 (by decide) ?_
        exact tk_zret (pc := 31) C hret dX6_isToldField_31 bz1 hw
def wt_isToldField (k : Int32 → TS → Prop) (x1 : Int32) (x2 : Int32) (u : TS) : Prop := ∃ fu : Nat, wt_isToldField_2 k fu x1 x2 0 u
theorem wk_isToldField (l : Launch) {G : TG} (hG : TD G) {k : Int32 → TS → Prop} {x1 : Int32} {x2 : Int32} {u : TS} (hw : wt_isToldField k x1 x2 u) : TMet l yX6_isToldField cX6_isToldField 4 (some .boolean) 1 G [.ref G.2.2.1, .int x1, .int x2] u (tI k) := by
  refine tk_met hG rfl (Nat.le_of_ble_eq_true rfl) (fun X hXl hXn hret C => ?_)
  subst hXl
  unfold wt_isToldField at hw
  refine GK.sub (lv' := [(0, .ref G.2.2.1), (1, .int x1), (2, .int x2)]) [0, 1, 2] rfl ?_
  refine gk_iconst (pc := 0) (v := 0) C.1 dX6_isToldField_0 (by decide) ?_
  refine gk_istore_n (pc := 1) (lv' := [(3, Value.int 0), (0, Value.ref G.2.2.1), (1, Value.int x1), (2, Value.int x2)]) C.1 dX6_isToldField_1 rfl (by rw [hXn]; decide) rfl ?_
  refine GK.sub (lv' := [(0, .ref G.2.2.1), (1, .int x1), (2, .int x2), (3, .int 0)]) [1, 2, 3, 0] rfl ?_
  obtain ⟨n9, hw⟩ := hw
  exact kt_isToldField_2 C hG hret hXn  n9 _ _ _ _ hw
/-! findsMore(II)V -/
def wt_findsMore_48 (k : TS → Prop) (J2 : Int32 → Int32 → Int32 → TS → Prop) (x1 : Int32) (x2 : Int32) (x3 : Int32) (u : TS) : Prop := ∀ x_1 : Int32, x_1 = x3 + 1 → (J2 x1 x2 x_1 u)
theorem kt_findsMore_48 {X : Ev} {G : TG} {k : TS → Prop} {J2 : Int32 → Int32 → Int32 → TS → Prop} (C : TC X G cX6_findsMore 2) (hG : TD G) (hret : (ev_h X).sig.returnType = none) (hXn : ev_n X = 5) (hJ2 : ∀ (x1 : Int32) (x2 : Int32) (x3 : Int32) (u : TS), J2 x1 x2 x3 u → GK X (TP G u) 0 0 (tQ X G (tV k)) 2 [(0, .ref G.2.2.1), (1, .int x1), (2, .int x2), (3, .int x3)] []) : ∀ (x1 : Int32) (x2 : Int32) (x3 : Int32) (u : TS), wt_findsMore_48 k J2 x1 x2 x3 u → GK X (TP G u) 0 0 (tQ X G (tV k)) 48 [(0, .ref G.2.2.1), (1, .int x1), (2, .int x2), (3, .int x3)] [] := by
  intro x1 x2 x3 u hw
  unfold wt_findsMore_48 at hw
  obtain ⟨x_1, ex_1⟩ : ∃ z : Int32, z = x3 + 1 := ⟨_, rfl⟩
  replace hw := hw x_1 ex_1
  refine gk_iinc (pc := 48) (v := x_1) (lv' := [(3, Value.int x_1), (0, Value.ref G.2.2.1), (1, Value.int x1), (2, Value.int x2)]) C.1 3 dX6_findsMore_48 rfl (by rw [ex_1]; rfl) (by rw [hXn]; decide) rfl ?_
  refine gk_goto (pc := 51) (tgt := 2) C.1 dX6_findsMore_51 (by decide) ?_
  refine GK.sub (lv' := [(0, .ref G.2.2.1), (1, .int x1), (2, .int x2), (3, .int x_1)]) [1, 2, 3, 0] rfl ?_
  exact hJ2 _ _ _ _ hw
def wt_findsMore_2 (k : TS → Prop) : Nat → Int32 → Int32 → Int32 → TS → Prop
  | 0 => fun _ _ _ _ => False
  | n + 1 => fun x1 x2 x3 u => vp_in x2 21 ∧ ((((u.1 2 x2.toNatClampNeg) ≤ x3 → (k u)) ∧ (¬ (u.1 2 x2.toNatClampNeg) ≤ x3 → (wt_childOf (fun r_3 u_2 => vp_in r_3 21 ∧ (wt_isToldField (fun r_5 u_4 => ((¬ r_5 = 0 → (wt_findsMore_48 k (fun yx1 yx2 yx3 yu => wt_findsMore_2 k n yx1 yx2 yx3 yu) x1 x2 x3 u_4)) ∧ (r_5 = 0 → (vp_in r_3 21 ∧ (wt_finds (fun u_7 => wt_findsMore_48 k (fun yx1 yx2 yx3 yu => wt_findsMore_2 k n yx1 yx2 yx3 yu) x1 x2 x3 u_7) (u_4.1 5 r_3.toNatClampNeg) 7 u_4))))) x1 (u_2.1 3 r_3.toNatClampNeg) u_2)) x2 x3 u))))
theorem kt_findsMore_2 {X : Ev} {G : TG} {k : TS → Prop} (C : TC X G cX6_findsMore 2) (hG : TD G) (hret : (ev_h X).sig.returnType = none) (hXn : ev_n X = 5) : ∀ (n : Nat) (x1 : Int32) (x2 : Int32) (x3 : Int32) (u : TS), wt_findsMore_2 k n x1 x2 x3 u → GK X (TP G u) 0 0 (tQ X G (tV k)) 2 [(0, .ref G.2.2.1), (1, .int x1), (2, .int x2), (3, .int x3)] [] := by
  intro n
  induction n with
  | zero => intro x1 x2 x3 u hw; exact hw.elim
  | succ n ih =>
  intro x1 x2 x3 u hw
  unfold wt_findsMore_2 at hw
  refine gk_iload_n (pc := 2) C.1 3 dX6_findsMore_2 rfl rfl ?_
  refine gk_aload_n (pc := 3) C.1 0 dX6_findsMore_3 rfl rfl ?_
  refine tk_getA (pc := 4) C (k := 2) (by decide) (by decide) q2123 rfl dX6_findsMore_4 ?_
  refine gk_iload_n (pc := 7) C.1 2 dX6_findsMore_7 rfl rfl ?_
  obtain ⟨hi, hw⟩ := hw
  refine tk_ald (pc := 8) C (k := 2) (by decide) hi dX6_findsMore_8 ?_
  refine gk_icmp_ge (pc := 9) (tgt := 54) C.1 dX6_findsMore_9 (by decide) (fun c_1 => ?_) (fun c_1 => ?_)
  · replace hw := hw.1 c_1
    exact tk_vret (pc := 54) C hret dX6_findsMore_54 hw
  · replace hw := hw.2 c_1
    refine gk_aload_n (pc := 12) C.1 0 dX6_findsMore_12 rfl rfl ?_
    refine gk_iload_n (pc := 13) C.1 2 dX6_findsMore_13 rfl rfl ?_
    refine gk_iload_n (pc := 14) C.1 3 dX6_findsMore_14 rfl rfl ?_
    refine tk_callV (pc := 15) (y := yX6_childOf) (n := 2) (As := [.int x2, .int x3]) (rest := []) C (wk_childOf (ev_l X) hG hw) q2505 q2507 qs109 q2508 ⟨rfl, by decide +kernel⟩ ⟨by decide, by decide⟩ rfl rfl (Nat.le_of_ble_eq_true rfl) dX6_findsMore_15 (fun v9 u_2 hp => ?_)
    obtain ⟨r_3, rfl, hw⟩ := hp
    refine GK.at (p2 := 18) rfl ?_
    refine gk_istore (pc := 18) (lv' := [(4, Value.int r_3), (0, Value.ref G.2.2.1), (1, Value.int x1), (2, Value.int x2), (3, Value.int x3)]) C.1 dX6_findsMore_18 (by rw [hXn]; decide) rfl ?_
    refine gk_aload_n (pc := 20) C.1 1 dX6_findsMore_20 rfl rfl ?_
    refine gk_iload_n (pc := 21) C.1 2 dX6_findsMore_21 rfl rfl ?_
    refine gk_aload_n (pc := 22) C.1 1 dX6_findsMore_22 rfl rfl ?_
    refine tk_getA (pc := 23) C (k := 3) (by decide) (by decide) q2124 rfl dX6_findsMore_23 ?_
    refine gk_iload (pc := 26) C.1 0 dX6_findsMore_26 rfl ?_
    obtain ⟨hi, hw⟩ := hw
    refine tk_ald (pc := 28) C (k := 3) (by decide) hi dX6_findsMore_28 ?_
    refine tk_callV (pc := 29) (y := yX6_isToldField) (n := 2) (As := [.int x1, .int (u_2.1 3 r_3.toNatClampNeg)]) (rest := []) C (wk_isToldField (ev_l X) hG hw) q2509 q2511 qs110 q2512 ⟨rfl, by decide +kernel⟩ ⟨by decide, by decide⟩ rfl rfl (Nat.le_of_ble_eq_true rfl) dX6_findsMore_29 (fun v9 u_4 hp => ?_)
    obtain ⟨r_5, rfl, hw⟩ := hp
    refine GK.at (p2 := 32) rfl ?_
    refine gk_if_ne (pc := 32) (tgt := 48) C.1 dX6_findsMore_32 (by decide) (fun c_6 => ?_) (fun c_6 => ?_)
    · replace hw := hw.1 c_6
      refine GK.sub (lv' := [(0, .ref G.2.2.1), (1, .int x1), (2, .int x2), (3, .int x3)]) [1, 2, 3, 4] rfl ?_
      exact kt_findsMore_48 C hG hret hXn ih _ _ _ _ hw
    · replace hw := hw.2 c_6
      refine gk_aload_n (pc := 35) C.1 1 dX6_findsMore_35 rfl rfl ?_
      refine gk_aload_n (pc := 36) C.1 1 dX6_findsMore_36 rfl rfl ?_
      refine tk_getA (pc := 37) C (k := 5) (by decide) (by decide) q2126 rfl dX6_findsMore_37 ?_
      refine gk_iload (pc := 40) C.1 0 dX6_findsMore_40 rfl ?_
      obtain ⟨hi, hw⟩ := hw
      refine tk_ald (pc := 42) C (k := 5) (by decide) hi dX6_findsMore_42 ?_
      refine gk_bipush (pc := 43) (v := 7) C.1 dX6_findsMore_43 (by decide) ?_
      refine tk_callV (pc := 45) (y := yX6_finds) (n := 2) (As := [.int (u_4.1 5 r_3.toNatClampNeg), .int 7]) (rest := []) C (wk_finds (ev_l X) hG hw) q2477 q2479 qs102 q2480 ⟨rfl, by decide +kernel⟩ ⟨by decide, by decide⟩ rfl rfl (Nat.le_of_ble_eq_true rfl) dX6_findsMore_45 (fun v9 u_7 hp => ?_)
      obtain ⟨rfl, hw⟩ := hp
      refine GK.at (p2 := 48) rfl ?_
      refine GK.sub (lv' := [(0, .ref G.2.2.1), (1, .int x1), (2, .int x2), (3, .int x3)]) [1, 2, 3, 4] rfl ?_
      exact kt_findsMore_48 C hG hret hXn ih _ _ _ _ hw
def wt_findsMore (k : TS → Prop) (x1 : Int32) (x2 : Int32) (u : TS) : Prop := ∃ fu : Nat, wt_findsMore_2 k fu x1 x2 0 u
theorem wk_findsMore (l : Launch) {G : TG} (hG : TD G) {k : TS → Prop} {x1 : Int32} {x2 : Int32} {u : TS} (hw : wt_findsMore k x1 x2 u) : TMet l yX6_findsMore cX6_findsMore 5 (none) 2 G [.ref G.2.2.1, .int x1, .int x2] u (tV k) := by
  refine tk_met hG rfl (Nat.le_of_ble_eq_true rfl) (fun X hXl hXn hret C => ?_)
  subst hXl
  unfold wt_findsMore at hw
  refine GK.sub (lv' := [(0, .ref G.2.2.1), (1, .int x1), (2, .int x2)]) [0, 1, 2] rfl ?_
  refine gk_iconst (pc := 0) (v := 0) C.1 dX6_findsMore_0 (by decide) ?_
  refine gk_istore_n (pc := 1) (lv' := [(3, Value.int 0), (0, Value.ref G.2.2.1), (1, Value.int x1), (2, Value.int x2)]) C.1 dX6_findsMore_1 rfl (by rw [hXn]; decide) rfl ?_
  refine GK.sub (lv' := [(0, .ref G.2.2.1), (1, .int x1), (2, .int x2), (3, .int 0)]) [1, 2, 3, 0] rfl ?_
  obtain ⟨n9, hw⟩ := hw
  exact kt_findsMore_2 C hG hret hXn  n9 _ _ _ _ hw
/-! fieldOf(II)I -/
def wt_fieldOf_2 (k : Int32 → TS → Prop) : Nat → Int32 → Int32 → Int32 → TS → Prop
  | 0 => fun _ _ _ _ => False
  | n + 1 => fun x1 x2 x3 u => vp_in x1 21 ∧ ((((u.1 2 x1.toNatClampNeg) ≤ x3 → (k (-9) u)) ∧ (¬ (u.1 2 x1.toNatClampNeg) ≤ x3 → (wt_childOf (fun r_3 u_2 => vp_in r_3 21 ∧ (((¬ (u_2.1 3 r_3.toNatClampNeg) = x2 → (∀ x_5 : Int32, x_5 = x3 + 1 → (wt_fieldOf_2 k n x1 x2 x_5 u_2))) ∧ ((u_2.1 3 r_3.toNatClampNeg) = x2 → (wt_childOf (fun r_7 u_6 => k r_7 u_6) x1 x3 u_2))))) x1 x3 u))))
theorem kt_fieldOf_2 {X : Ev} {G : TG} {k : Int32 → TS → Prop} (C : TC X G cX6_fieldOf 2) (hG : TD G) (hret : (ev_h X).sig.returnType = some .int) (hXn : ev_n X = 4) : ∀ (n : Nat) (x1 : Int32) (x2 : Int32) (x3 : Int32) (u : TS), wt_fieldOf_2 k n x1 x2 x3 u → GK X (TP G u) 0 0 (tQ X G (tI k)) 2 [(0, .ref G.2.2.1), (1, .int x1), (2, .int x2), (3, .int x3)] [] := by
  intro n
  induction n with
  | zero => intro x1 x2 x3 u hw; exact hw.elim
  | succ n ih =>
  intro x1 x2 x3 u hw
  unfold wt_fieldOf_2 at hw
  refine gk_iload_n (pc := 2) C.1 3 dX6_fieldOf_2 rfl rfl ?_
  refine gk_aload_n (pc := 3) C.1 0 dX6_fieldOf_3 rfl rfl ?_
  refine tk_getA (pc := 4) C (k := 2) (by decide) (by decide) q2123 rfl dX6_fieldOf_4 ?_
  refine gk_iload_n (pc := 7) C.1 1 dX6_fieldOf_7 rfl rfl ?_
  obtain ⟨hi, hw⟩ := hw
  refine tk_ald (pc := 8) C (k := 2) (by decide) hi dX6_fieldOf_8 ?_
  refine gk_icmp_ge (pc := 9) (tgt := 40) C.1 dX6_fieldOf_9 (by decide) (fun c_1 => ?_) (fun c_1 => ?_)
  · replace hw := hw.1 c_1
    refine gk_bipush (pc := 40) (v := (-9)) C.1 dX6_fieldOf_40 (by decide) ?_
    exact tk_iret (pc := 42) C hret dX6_fieldOf_42 hw
  · replace hw := hw.2 c_1
    refine gk_aload_n (pc := 12) C.1 0 dX6_fieldOf_12 rfl rfl ?_
    refine tk_getA (pc := 13) C (k := 3) (by decide) (by decide) q2124 rfl dX6_fieldOf_13 ?_
    refine gk_aload_n (pc := 16) C.1 0 dX6_fieldOf_16 rfl rfl ?_
    refine gk_iload_n (pc := 17) C.1 1 dX6_fieldOf_17 rfl rfl ?_
    refine gk_iload_n (pc := 18) C.1 3 dX6_fieldOf_18 rfl rfl ?_
    refine tk_callV (pc := 19) (y := yX6_childOf) (n := 2) (As := [.int x1, .int x3]) (rest := [.ref (G.2.2.2 3)]) C (wk_childOf (ev_l X) hG hw) q2505 q2507 qs109 q2508 ⟨rfl, by decide +kernel⟩ ⟨by decide, by decide⟩ rfl rfl (Nat.le_of_ble_eq_true rfl) dX6_fieldOf_19 (fun v9 u_2 hp => ?_)
    obtain ⟨r_3, rfl, hw⟩ := hp
    refine GK.at (p2 := 22) rfl ?_
    obtain ⟨hi, hw⟩ := hw
    refine tk_ald (pc := 22) C (k := 3) (by decide) hi dX6_fieldOf_22 ?_
    refine gk_iload_n (pc := 23) C.1 2 dX6_fieldOf_23 rfl rfl ?_
    refine gk_icmp_ne (pc := 24) (tgt := 34) C.1 dX6_fieldOf_24 (by decide) (fun c_4 => ?_) (fun c_4 => ?_)
    · replace hw := hw.1 c_4
      obtain ⟨x_5, ex_5⟩ : ∃ z : Int32, z = x3 + 1 := ⟨_, rfl⟩
      replace hw := hw x_5 ex_5
      refine gk_iinc (pc := 34) (v := x_5) (lv' := [(3, Value.int x_5), (0, Value.ref G.2.2.1), (1, Value.int x1), (2, Value.int x2)]) C.1 3 dX6_fieldOf_34 rfl (by rw [ex_5]; rfl) (by rw [hXn]; decide) rfl ?_
      refine gk_goto (pc := 37) (tgt := 2) C.1 dX6_fieldOf_37 (by decide) ?_
      refine GK.sub (lv' := [(0, .ref G.2.2.1), (1, .int x1), (2, .int x2), (3, .int x_5)]) [1, 2, 3, 0] rfl ?_
      exact ih _ _ _ _ hw
    · replace hw := hw.2 c_4
      refine gk_aload_n (pc := 27) C.1 0 dX6_fieldOf_27 rfl rfl ?_
      refine gk_iload_n (pc := 28) C.1 1 dX6_fieldOf_28 rfl rfl ?_
      refine gk_iload_n (pc := 29) C.1 3 dX6_fieldOf_29 rfl rfl ?_
      refine tk_callV (pc := 30) (y := yX6_childOf) (n := 2) (As := [.int x1, .int x3]) (rest := []) C (wk_childOf (ev_l X) hG hw) q2505 q2507 qs109 q2508 ⟨rfl, by decide +kernel⟩ ⟨by decide, by decide⟩ rfl rfl (Nat.le_of_ble_eq_true rfl) dX6_fieldOf_30 (fun v9 u_6 hp => ?_)
      obtain ⟨r_7, rfl, hw⟩ := hp
      refine GK.at (p2 := 33) rfl ?_
      exact tk_iret (pc := 33) C hret dX6_fieldOf_33 hw
def wt_fieldOf (k : Int32 → TS → Prop) (x1 : Int32) (x2 : Int32) (u : TS) : Prop := ∃ fu : Nat, wt_fieldOf_2 k fu x1 x2 0 u
theorem wk_fieldOf (l : Launch) {G : TG} (hG : TD G) {k : Int32 → TS → Prop} {x1 : Int32} {x2 : Int32} {u : TS} (hw : wt_fieldOf k x1 x2 u) : TMet l yX6_fieldOf cX6_fieldOf 4 (some .int) 2 G [.ref G.2.2.1, .int x1, .int x2] u (tI k) := by
  refine tk_met hG rfl (Nat.le_of_ble_eq_true rfl) (fun X hXl hXn hret C => ?_)
  subst hXl
  unfold wt_fieldOf at hw
  refine GK.sub (lv' := [(0, .ref G.2.2.1), (1, .int x1), (2, .int x2)]) [0, 1, 2] rfl ?_
  refine gk_iconst (pc := 0) (v := 0) C.1 dX6_fieldOf_0 (by decide) ?_
  refine gk_istore_n (pc := 1) (lv' := [(3, Value.int 0), (0, Value.ref G.2.2.1), (1, Value.int x1), (2, Value.int x2)]) C.1 dX6_fieldOf_1 rfl (by rw [hXn]; decide) rfl ?_
  refine GK.sub (lv' := [(0, .ref G.2.2.1), (1, .int x1), (2, .int x2), (3, .int 0)]) [1, 2, 3, 0] rfl ?_
  obtain ⟨n9, hw⟩ := hw
  exact kt_fieldOf_2 C hG hret hXn  n9 _ _ _ _ hw
/-! isAnyBelow(II)Z -/
def wt_isAnyBelow_2 (k : Int32 → TS → Prop) : Nat → Int32 → Int32 → TS → Prop
  | 0 => fun _ _ _ => False
  | n + 1 => fun x2 x3 u => (((u.2 33) ≤ x3 → (k 0 u)) ∧ (¬ (u.2 33) ≤ x3 → (vp_in x3 16384 ∧ (wt_isBelow (fun r_3 u_2 => ((r_3 = 0 → (∀ x_5 : Int32, x_5 = x3 + 1 → (wt_isAnyBelow_2 k n x2 x_5 u_2))) ∧ (¬ r_3 = 0 → (k 1 u_2)))) (u.1 24 x3.toNatClampNeg) x2 u))))
theorem kt_isAnyBelow_2 {X : Ev} {G : TG} {k : Int32 → TS → Prop} (C : TC X G cX6_isAnyBelow 2) (hG : TD G) (hret : (ev_h X).sig.returnType = some .boolean) (hXn : ev_n X = 4) : ∀ (n : Nat) (x2 : Int32) (x3 : Int32) (u : TS), wt_isAnyBelow_2 k n x2 x3 u → GK X (TP G u) 0 0 (tQ X G (tI k)) 2 [(0, .ref G.2.2.1), (2, .int x2), (3, .int x3)] [] := by
  intro n
  induction n with
  | zero => intro x2 x3 u hw; exact hw.elim
  | succ n ih =>
  intro x2 x3 u hw
  unfold wt_isAnyBelow_2 at hw
  refine gk_iload_n (pc := 2) C.1 2 dX6_isAnyBelow_2 rfl rfl ?_
  refine gk_aload_n (pc := 3) C.1 0 dX6_isAnyBelow_3 rfl rfl ?_
  refine tk_getI (pc := 4) C (k := 33) (by decide) (by decide) q2154 rfl dX6_isAnyBelow_4 ?_
  refine gk_icmp_ge (pc := 7) (tgt := 31) C.1 dX6_isAnyBelow_7 (by decide) (fun c_1 => ?_) (fun c_1 => ?_)
  · replace hw := hw.1 c_1
    refine gk_iconst (pc := 31) (v := 0) C.1 dX6_isAnyBelow_31 (by decide) ?_
    exact tk_zret (pc := 32) C hret dX6_isAnyBelow_32 bz0 hw
  · replace hw := hw.2 c_1
    refine gk_aload_n (pc := 10) C.1 0 dX6_isAnyBelow_10 rfl rfl ?_
    refine tk_getA (pc := 11) C (k := 24) (by decide) (by decide) q2145 rfl dX6_isAnyBelow_11 ?_
    refine gk_iload_n (pc := 14) C.1 2 dX6_isAnyBelow_14 rfl rfl ?_
    obtain ⟨hi, hw⟩ := hw
    refine tk_ald (pc := 15) C (k := 24) (by decide) hi dX6_isAnyBelow_15 ?_
    refine gk_iload_n (pc := 16) C.1 1 dX6_isAnyBelow_16 rfl rfl ?_
    refine tk_callS (pc := 17) (y := yX6_isBelow) (n := 2) (As := [.int (u.1 24 x3.toNatClampNeg), .int x2]) (rest := []) C (wk_isBelow (ev_l X) hG hw) q2525 q2526 q2527 ⟨rfl, by decide +kernel⟩ ⟨by decide, by decide⟩ rfl rfl (Nat.le_of_ble_eq_true rfl) dX6_isAnyBelow_17 (fun v9 u_2 hp => ?_)
    obtain ⟨r_3, rfl, hw⟩ := hp
    refine GK.at (p2 := 20) rfl ?_
    refine gk_if_eq (pc := 20) (tgt := 25) C.1 dX6_isAnyBelow_20 (by decide) (fun c_4 => ?_) (fun c_4 => ?_)
    · replace hw := hw.1 c_4
      obtain ⟨x_5, ex_5⟩ : ∃ z : Int32, z = x3 + 1 := ⟨_, rfl⟩
      replace hw := hw x_5 ex_5
      refine gk_iinc (pc := 25) (v := x_5) (lv' := [(3, Value.int x_5), (0, Value.ref G.2.2.1), (2, Value.int x2)]) C.1 2 dX6_isAnyBelow_25 rfl (by rw [ex_5]; rfl) (by rw [hXn]; decide) rfl ?_
      refine gk_goto (pc := 28) (tgt := 2) C.1 dX6_isAnyBelow_28 (by decide) ?_
      refine GK.sub (lv' := [(0, .ref G.2.2.1), (2, .int x2), (3, .int x_5)]) [1, 2, 0] rfl ?_
      exact ih _ _ _ hw
    · replace hw := hw.2 c_4
      refine gk_iconst (pc := 23) (v := 1) C.1 dX6_isAnyBelow_23 (by decide) ?_
      exact tk_zret (pc := 24) C hret dX6_isAnyBelow_24 bz1 hw
def wt_isAnyBelow (k : Int32 → TS → Prop) (x1 : Int32) (x2 : Int32) (u : TS) : Prop := ∃ fu : Nat, wt_isAnyBelow_2 k fu x2 x1 u
theorem wk_isAnyBelow (l : Launch) {G : TG} (hG : TD G) {k : Int32 → TS → Prop} {x1 : Int32} {x2 : Int32} {u : TS} (hw : wt_isAnyBelow k x1 x2 u) : TMet l yX6_isAnyBelow cX6_isAnyBelow 4 (some .boolean) 2 G [.ref G.2.2.1, .int x1, .int x2] u (tI k) := by
  refine tk_met hG rfl (Nat.le_of_ble_eq_true rfl) (fun X hXl hXn hret C => ?_)
  subst hXl
  unfold wt_isAnyBelow at hw
  refine GK.sub (lv' := [(0, .ref G.2.2.1), (1, .int x1), (2, .int x2)]) [0, 1, 2] rfl ?_
  refine gk_iload_n (pc := 0) C.1 1 dX6_isAnyBelow_0 rfl rfl ?_
  refine gk_istore_n (pc := 1) (lv' := [(3, Value.int x1), (0, Value.ref G.2.2.1), (1, Value.int x1), (2, Value.int x2)]) C.1 dX6_isAnyBelow_1 rfl (by rw [hXn]; decide) rfl ?_
  refine GK.sub (lv' := [(0, .ref G.2.2.1), (2, .int x2), (3, .int x1)]) [1, 3, 0] rfl ?_
  obtain ⟨n9, hw⟩ := hw
  exact kt_isAnyBelow_2 C hG hret hXn  n9 _ _ _ hw
/-! isLess(II)Z -/
def wt_isLess_39 (k : Int32 → TS → Prop) (x1 : Int32) (x2 : Int32) (u : TS) : Prop := vp_in x1 21 ∧ (vp_in x2 21 ∧ ((((u.1 4 x2.toNatClampNeg) ≤ (u.1 4 x1.toNatClampNeg) → (k 0 u)) ∧ (¬ (u.1 4 x2.toNatClampNeg) ≤ (u.1 4 x1.toNatClampNeg) → (k 1 u)))))
theorem kt_isLess_39 {X : Ev} {G : TG} {k : Int32 → TS → Prop} (C : TC X G cX6_isLess 1) (hG : TD G) (hret : (ev_h X).sig.returnType = some .boolean) (hXn : ev_n X = 3) : ∀ (x1 : Int32) (x2 : Int32) (u : TS), wt_isLess_39 k x1 x2 u → GK X (TP G u) 0 0 (tQ X G (tI k)) 39 [(0, .ref G.2.2.1), (1, .int x1), (2, .int x2)] [] := by
  intro x1 x2 u hw
  unfold wt_isLess_39 at hw
  refine gk_aload_n (pc := 39) C.1 0 dX6_isLess_39 rfl rfl ?_
  refine tk_getA (pc := 40) C (k := 4) (by decide) (by decide) q2125 rfl dX6_isLess_40 ?_
  refine gk_iload_n (pc := 43) C.1 1 dX6_isLess_43 rfl rfl ?_
  obtain ⟨hi, hw⟩ := hw
  refine tk_ald (pc := 44) C (k := 4) (by decide) hi dX6_isLess_44 ?_
  refine gk_aload_n (pc := 45) C.1 0 dX6_isLess_45 rfl rfl ?_
  refine tk_getA (pc := 46) C (k := 4) (by decide) (by decide) q2125 rfl dX6_isLess_46 ?_
  refine gk_iload_n (pc := 49) C.1 2 dX6_isLess_49 rfl rfl ?_
  obtain ⟨hi, hw⟩ := hw
  refine tk_ald (pc := 50) C (k := 4) (by decide) hi dX6_isLess_50 ?_
  refine gk_icmp_ge (pc := 51) (tgt := 58) C.1 dX6_isLess_51 (by decide) (fun c_1 => ?_) (fun c_1 => ?_)
  · replace hw := hw.1 c_1
    refine gk_iconst (pc := 58) (v := 0) C.1 dX6_isLess_58 (by decide) ?_
    exact tk_zret (pc := 59) C hret dX6_isLess_59 bz0 hw
  · replace hw := hw.2 c_1
    refine gk_iconst (pc := 54) (v := 1) C.1 dX6_isLess_54 (by decide) ?_
    refine gk_goto (pc := 55) (tgt := 59) C.1 dX6_isLess_55 (by decide) ?_
    exact tk_zret (pc := 59) C hret dX6_isLess_59 bz1 hw
def wt_isLess (k : Int32 → TS → Prop) (x1 : Int32) (x2 : Int32) (u : TS) : Prop := vp_in x1 21 ∧ (((¬ (u.1 1 x1.toNatClampNeg) = 0 → (wt_isLess_39 k x1 x2 u)) ∧ ((u.1 1 x1.toNatClampNeg) = 0 → (vp_in x2 21 ∧ (((¬ (u.1 1 x2.toNatClampNeg) = 0 → (wt_isLess_39 k x1 x2 u)) ∧ ((u.1 1 x2.toNatClampNeg) = 0 → (vp_in x1 21 ∧ (vp_in x2 21 ∧ ((((u.1 2 x2.toNatClampNeg) ≤ (u.1 2 x1.toNatClampNeg) → (k 0 u)) ∧ (¬ (u.1 2 x2.toNatClampNeg) ≤ (u.1 2 x1.toNatClampNeg) → (k 1 u)))))))))))))
theorem wk_isLess (l : Launch) {G : TG} (hG : TD G) {k : Int32 → TS → Prop} {x1 : Int32} {x2 : Int32} {u : TS} (hw : wt_isLess k x1 x2 u) : TMet l yX6_isLess cX6_isLess 3 (some .boolean) 1 G [.ref G.2.2.1, .int x1, .int x2] u (tI k) := by
  refine tk_met hG rfl (Nat.le_of_ble_eq_true rfl) (fun X hXl hXn hret C => ?_)
  subst hXl
  unfold wt_isLess at hw
  refine GK.sub (lv' := [(0, .ref G.2.2.1), (1, .int x1), (2, .int x2)]) [0, 1, 2] rfl ?_
  refine gk_aload_n (pc := 0) C.1 0 dX6_isLess_0 rfl rfl ?_
  refine tk_getA (pc := 1) C (k := 1) (by decide) (by decide) q2122 rfl dX6_isLess_1 ?_
  refine gk_iload_n (pc := 4) C.1 1 dX6_isLess_4 rfl rfl ?_
  obtain ⟨hi, hw⟩ := hw
  refine tk_ald (pc := 5) C (k := 1) (by decide) hi dX6_isLess_5 ?_
  refine gk_if_ne (pc := 6) (tgt := 39) C.1 dX6_isLess_6 (by decide) (fun c_1 => ?_) (fun c_1 => ?_)
  · replace hw := hw.1 c_1
    refine GK.sub (lv' := [(0, .ref G.2.2.1), (1, .int x1), (2, .int x2)]) [0, 1, 2] rfl ?_
    exact kt_isLess_39 C hG hret hXn  _ _ _ hw
  · replace hw := hw.2 c_1
    refine gk_aload_n (pc := 9) C.1 0 dX6_isLess_9 rfl rfl ?_
    refine tk_getA (pc := 10) C (k := 1) (by decide) (by decide) q2122 rfl dX6_isLess_10 ?_
    refine gk_iload_n (pc := 13) C.1 2 dX6_isLess_13 rfl rfl ?_
    obtain ⟨hi, hw⟩ := hw
    refine tk_ald (pc := 14) C (k := 1) (by decide) hi dX6_isLess_14 ?_
    refine gk_if_ne (pc := 15) (tgt := 39) C.1 dX6_isLess_15 (by decide) (fun c_2 => ?_) (fun c_2 => ?_)
    · replace hw := hw.1 c_2
      refine GK.sub (lv' := [(0, .ref G.2.2.1), (1, .int x1), (2, .int x2)]) [0, 1, 2] rfl ?_
      exact kt_isLess_39 C hG hret hXn  _ _ _ hw
    · replace hw := hw.2 c_2
      refine gk_aload_n (pc := 18) C.1 0 dX6_isLess_18 rfl rfl ?_
      refine tk_getA (pc := 19) C (k := 2) (by decide) (by decide) q2123 rfl dX6_isLess_19 ?_
      refine gk_iload_n (pc := 22) C.1 1 dX6_isLess_22 rfl rfl ?_
      obtain ⟨hi, hw⟩ := hw
      refine tk_ald (pc := 23) C (k := 2) (by decide) hi dX6_isLess_23 ?_
      refine gk_aload_n (pc := 24) C.1 0 dX6_isLess_24 rfl rfl ?_
      refine tk_getA (pc := 25) C (k := 2) (by decide) (by decide) q2123 rfl dX6_isLess_25 ?_
      refine gk_iload_n (pc := 28) C.1 2 dX6_isLess_28 rfl rfl ?_
      obtain ⟨hi, hw⟩ := hw
      refine tk_ald (pc := 29) C (k := 2) (by decide) hi dX6_isLess_29 ?_
      refine gk_icmp_ge (pc := 30) (tgt := 37) C.1 dX6_isLess_30 (by decide) (fun c_3 => ?_) (fun c_3 => ?_)
      · replace hw := hw.1 c_3
        refine gk_iconst (pc := 37) (v := 0) C.1 dX6_isLess_37 (by decide) ?_
        exact tk_zret (pc := 38) C hret dX6_isLess_38 bz0 hw
      · replace hw := hw.2 c_3
        refine gk_iconst (pc := 33) (v := 1) C.1 dX6_isLess_33 (by decide) ?_
        refine gk_goto (pc := 34) (tgt := 38) C.1 dX6_isLess_34 (by decide) ?_
        exact tk_zret (pc := 38) C hret dX6_isLess_38 bz1 hw
/-! findsWaiter(III)V -/
def wt_findsWaiter_66 (k : TS → Prop)  (u : TS) : Prop := ∀ u_1 : TS, u_1 = tpI u 34 ((u.2 34) + 1) → (k u_1)
theorem kt_findsWaiter_66 {X : Ev} {G : TG} {k : TS → Prop} (C : TC X G cX6_findsWaiter 4) (hG : TD G) (hret : (ev_h X).sig.returnType = none) (hXn : ev_n X = 6) : ∀  (u : TS), wt_findsWaiter_66 k  u → GK X (TP G u) 0 0 (tQ X G (tV k)) 66 [(0, .ref G.2.2.1)] [] := by
  intro  u hw
  unfold wt_findsWaiter_66 at hw
  refine gk_aload_n (pc := 66) C.1 0 dX6_findsWaiter_66 rfl rfl ?_
  refine gk_dup (pc := 67) C.1 dX6_findsWaiter_67 rfl ?_
  refine tk_getI (pc := 68) C (k := 34) (by decide) (by decide) q2155 rfl dX6_findsWaiter_68 ?_
  refine gk_iconst (pc := 71) (v := 1) C.1 dX6_findsWaiter_71 (by decide) ?_
  refine gk_iadd (pc := 72) C.1 dX6_findsWaiter_72 ?_
  refine tk_putI (pc := 73) C (k := 34) (by decide) (by decide) q2155 rfl rfl (ty := .int) rfl rfl rfl dX6_findsWaiter_73 (fun u_1 eu_1 => ?_)
  replace hw := hw u_1 eu_1
  refine gk_goto (pc := 76) (tgt := 152) C.1 dX6_findsWaiter_76 (by decide) ?_
  exact tk_vret (pc := 152) C hret dX6_findsWaiter_152 hw
def wt_findsWaiter_117 (k : TS → Prop) (x1 : Int32) (x4 : Int32) (x5 : Int32) (u : TS) : Prop := vp_in x1 33 ∧ (((¬ (u.1 17 x1.toNatClampNeg) = 61 → (k u)) ∧ ((u.1 17 x1.toNatClampNeg) = 61 → (wt_areSame (fun r_3 u_2 => ((¬ r_3 = 0 → (k u_2)) ∧ (r_3 = 0 → (vp_in x5 21 ∧ (wt_finds (fun u_5 => k u_5) (u_2.1 5 x5.toNatClampNeg) 9 u_2))))) x4 x5 u))))
theorem kt_findsWaiter_117 {X : Ev} {G : TG} {k : TS → Prop} (C : TC X G cX6_findsWaiter 4) (hG : TD G) (hret : (ev_h X).sig.returnType = none) (hXn : ev_n X = 6) : ∀ (x1 : Int32) (x4 : Int32) (x5 : Int32) (u : TS), wt_findsWaiter_117 k x1 x4 x5 u → GK X (TP G u) 0 0 (tQ X G (tV k)) 117 [(0, .ref G.2.2.1), (1, .int x1), (4, .int x4), (5, .int x5)] [] := by
  intro x1 x4 x5 u hw
  unfold wt_findsWaiter_117 at hw
  refine gk_aload_n (pc := 117) C.1 0 dX6_findsWaiter_117 rfl rfl ?_
  refine tk_getA (pc := 118) C (k := 17) (by decide) (by decide) q2138 rfl dX6_findsWaiter_118 ?_
  refine gk_iload_n (pc := 121) C.1 1 dX6_findsWaiter_121 rfl rfl ?_
  obtain ⟨hi, hw⟩ := hw
  refine tk_ald (pc := 122) C (k := 17) (by decide) hi dX6_findsWaiter_122 ?_
  refine gk_bipush (pc := 123) (v := 61) C.1 dX6_findsWaiter_123 (by decide) ?_
  refine gk_icmp_ne (pc := 125) (tgt := 152) C.1 dX6_findsWaiter_125 (by decide) (fun c_1 => ?_) (fun c_1 => ?_)
  · replace hw := hw.1 c_1
    exact tk_vret (pc := 152) C hret dX6_findsWaiter_152 hw
  · replace hw := hw.2 c_1
    refine gk_aload_n (pc := 128) C.1 0 dX6_findsWaiter_128 rfl rfl ?_
    refine gk_iload (pc := 129) C.1 2 dX6_findsWaiter_129 rfl ?_
    refine gk_iload (pc := 131) C.1 3 dX6_findsWaiter_131 rfl ?_
    refine tk_callV (pc := 133) (y := yX6_areSame) (n := 2) (As := [.int x4, .int x5]) (rest := []) C (wk_areSame (ev_l X) hG hw) q2532 q2534 qs115 q2535 ⟨rfl, by decide +kernel⟩ ⟨by decide, by decide⟩ rfl rfl (Nat.le_of_ble_eq_true rfl) dX6_findsWaiter_133 (fun v9 u_2 hp => ?_)
    obtain ⟨r_3, rfl, hw⟩ := hp
    refine GK.at (p2 := 136) rfl ?_
    refine gk_if_ne (pc := 136) (tgt := 152) C.1 dX6_findsWaiter_136 (by decide) (fun c_4 => ?_) (fun c_4 => ?_)
    · replace hw := hw.1 c_4
      exact tk_vret (pc := 152) C hret dX6_findsWaiter_152 hw
    · replace hw := hw.2 c_4
      refine gk_aload_n (pc := 139) C.1 0 dX6_findsWaiter_139 rfl rfl ?_
      refine gk_aload_n (pc := 140) C.1 0 dX6_findsWaiter_140 rfl rfl ?_
      refine tk_getA (pc := 141) C (k := 5) (by decide) (by decide) q2126 rfl dX6_findsWaiter_141 ?_
      refine gk_iload (pc := 144) C.1 3 dX6_findsWaiter_144 rfl ?_
      obtain ⟨hi, hw⟩ := hw
      refine tk_ald (pc := 146) C (k := 5) (by decide) hi dX6_findsWaiter_146 ?_
      refine gk_bipush (pc := 147) (v := 9) C.1 dX6_findsWaiter_147 (by decide) ?_
      refine tk_callV (pc := 149) (y := yX6_finds) (n := 2) (As := [.int (u_2.1 5 x5.toNatClampNeg), .int 9]) (rest := []) C (wk_finds (ev_l X) hG hw) q2477 q2479 qs102 q2480 ⟨rfl, by decide +kernel⟩ ⟨by decide, by decide⟩ rfl rfl (Nat.le_of_ble_eq_true rfl) dX6_findsWaiter_149 (fun v9 u_5 hp => ?_)
      obtain ⟨rfl, hw⟩ := hp
      refine GK.at (p2 := 152) rfl ?_
      exact tk_vret (pc := 152) C hret dX6_findsWaiter_152 hw
def wt_findsWaiter (k : TS → Prop) (x1 : Int32) (x2 : Int32) (x3 : Int32) (u : TS) : Prop := vp_in x1 33 ∧ (wt_fieldOf (fun r_2 u_1 => vp_in x1 33 ∧ (wt_fieldOf (fun r_4 u_3 => ((r_2 < 0 → (wt_findsWaiter_66 k u_3)) ∧ (¬ r_2 < 0 → (((r_4 < 0 → (wt_findsWaiter_66 k u_3)) ∧ (¬ r_4 < 0 → (vp_in r_2 21 ∧ (wt_isAnyBelow (fun r_8 u_7 => ((¬ r_8 = 0 → (wt_findsWaiter_66 k u_7)) ∧ (r_8 = 0 → (vp_in r_4 21 ∧ (wt_isAnyBelow (fun r_11 u_10 => ((r_11 = 0 → (vp_in x1 33 ∧ (((¬ (u_10.1 17 x1.toNatClampNeg) = 60 → (wt_findsWaiter_117 k x1 r_2 r_4 u_10)) ∧ ((u_10.1 17 x1.toNatClampNeg) = 60 → (wt_isLess (fun r_15 u_14 => ((¬ r_15 = 0 → (wt_findsWaiter_117 k x1 r_2 r_4 u_14)) ∧ (r_15 = 0 → (vp_in r_4 21 ∧ (wt_finds (fun u_17 => k u_17) (u_14.1 5 r_4.toNatClampNeg) 8 u_14))))) r_2 r_4 u_10)))))) ∧ (¬ r_11 = 0 → (wt_findsWaiter_66 k u_10)))) x3 (u_7.1 5 r_4.toNatClampNeg) u_7))))) x3 (u_3.1 5 r_2.toNatClampNeg) u_3)))))))) x2 (u_1.1 19 x1.toNatClampNeg) u_1)) x2 (u.1 18 x1.toNatClampNeg) u)
theorem wk_findsWaiter (l : Launch) {G : TG} (hG : TD G) {k : TS → Prop} {x1 : Int32} {x2 : Int32} {x3 : Int32} {u : TS} (hw : wt_findsWaiter k x1 x2 x3 u) : TMet l yX6_findsWaiter cX6_findsWaiter 6 (none) 4 G [.ref G.2.2.1, .int x1, .int x2, .int x3] u (tV k) := by
  refine tk_met hG rfl (Nat.le_of_ble_eq_true rfl) (fun X hXl hXn hret C => ?_)
  subst hXl
  unfold wt_findsWaiter at hw
  refine GK.sub (lv' := [(0, .ref G.2.2.1), (1, .int x1), (2, .int x2), (3, .int x3)]) [0, 1, 2, 3] rfl ?_
  refine gk_aload_n (pc := 0) C.1 0 dX6_findsWaiter_0 rfl rfl ?_
  refine gk_iload_n (pc := 1) C.1 2 dX6_findsWaiter_1 rfl rfl ?_
  refine gk_aload_n (pc := 2) C.1 0 dX6_findsWaiter_2 rfl rfl ?_
  refine tk_getA (pc := 3) C (k := 18) (by decide) (by decide) q2139 rfl dX6_findsWaiter_3 ?_
  refine gk_iload_n (pc := 6) C.1 1 dX6_findsWaiter_6 rfl rfl ?_
  obtain ⟨hi, hw⟩ := hw
  refine tk_ald (pc := 7) C (k := 18) (by decide) hi dX6_findsWaiter_7 ?_
  refine tk_callV (pc := 8) (y := yX6_fieldOf) (n := 2) (As := [.int x2, .int (u.1 18 x1.toNatClampNeg)]) (rest := []) C (wk_fieldOf (ev_l X) hG hw) q2517 q2519 qs112 q2520 ⟨rfl, by decide +kernel⟩ ⟨by decide, by decide⟩ rfl rfl (Nat.le_of_ble_eq_true rfl) dX6_findsWaiter_8 (fun v9 u_1 hp => ?_)
  obtain ⟨r_2, rfl, hw⟩ := hp
  refine GK.at (p2 := 11) rfl ?_
  refine gk_istore (pc := 11) (lv' := [(4, Value.int r_2), (0, Value.ref G.2.2.1), (1, Value.int x1), (2, Value.int x2), (3, Value.int x3)]) C.1 dX6_findsWaiter_11 (by rw [hXn]; decide) rfl ?_
  refine gk_aload_n (pc := 13) C.1 1 dX6_findsWaiter_13 rfl rfl ?_
  refine gk_iload_n (pc := 14) C.1 3 dX6_findsWaiter_14 rfl rfl ?_
  refine gk_aload_n (pc := 15) C.1 1 dX6_findsWaiter_15 rfl rfl ?_
  refine tk_getA (pc := 16) C (k := 19) (by decide) (by decide) q2140 rfl dX6_findsWaiter_16 ?_
  refine gk_iload_n (pc := 19) C.1 2 dX6_findsWaiter_19 rfl rfl ?_
  obtain ⟨hi, hw⟩ := hw
  refine tk_ald (pc := 20) C (k := 19) (by decide) hi dX6_findsWaiter_20 ?_
  refine tk_callV (pc := 21) (y := yX6_fieldOf) (n := 2) (As := [.int x2, .int (u_1.1 19 x1.toNatClampNeg)]) (rest := []) C (wk_fieldOf (ev_l X) hG hw) q2517 q2519 qs112 q2520 ⟨rfl, by decide +kernel⟩ ⟨by decide, by decide⟩ rfl rfl (Nat.le_of_ble_eq_true rfl) dX6_findsWaiter_21 (fun v9 u_3 hp => ?_)
  obtain ⟨r_4, rfl, hw⟩ := hp
  refine GK.at (p2 := 24) rfl ?_
  refine gk_istore (pc := 24) (lv' := [(5, Value.int r_4), (4, Value.int r_2), (0, Value.ref G.2.2.1), (1, Value.int x1), (2, Value.int x2), (3, Value.int x3)]) C.1 dX6_findsWaiter_24 (by rw [hXn]; decide) rfl ?_
  refine gk_iload (pc := 26) C.1 1 dX6_findsWaiter_26 rfl ?_
  refine gk_if_lt (pc := 28) (tgt := 66) C.1 dX6_findsWaiter_28 (by decide) (fun c_5 => ?_) (fun c_5 => ?_)
  · replace hw := hw.1 c_5
    refine GK.sub (lv' := [(0, .ref G.2.2.1)]) [2] rfl ?_
    exact kt_findsWaiter_66 C hG hret hXn   _ hw
  · replace hw := hw.2 c_5
    refine gk_iload (pc := 31) C.1 0 dX6_findsWaiter_31 rfl ?_
    refine gk_if_lt (pc := 33) (tgt := 66) C.1 dX6_findsWaiter_33 (by decide) (fun c_6 => ?_) (fun c_6 => ?_)
    · replace hw := hw.1 c_6
      refine GK.sub (lv' := [(0, .ref G.2.2.1)]) [2] rfl ?_
      exact kt_findsWaiter_66 C hG hret hXn   _ hw
    · replace hw := hw.2 c_6
      refine gk_aload_n (pc := 36) C.1 2 dX6_findsWaiter_36 rfl rfl ?_
      refine gk_iload_n (pc := 37) C.1 5 dX6_findsWaiter_37 rfl rfl ?_
      refine gk_aload_n (pc := 38) C.1 2 dX6_findsWaiter_38 rfl rfl ?_
      refine tk_getA (pc := 39) C (k := 5) (by decide) (by decide) q2126 rfl dX6_findsWaiter_39 ?_
      refine gk_iload (pc := 42) C.1 1 dX6_findsWaiter_42 rfl ?_
      obtain ⟨hi, hw⟩ := hw
      refine tk_ald (pc := 44) C (k := 5) (by decide) hi dX6_findsWaiter_44 ?_
      refine tk_callV (pc := 45) (y := yX6_isAnyBelow) (n := 2) (As := [.int x3, .int (u_3.1 5 r_2.toNatClampNeg)]) (rest := []) C (wk_isAnyBelow (ev_l X) hG hw) q2521 q2523 qs113 q2524 ⟨rfl, by decide +kernel⟩ ⟨by decide, by decide⟩ rfl rfl (Nat.le_of_ble_eq_true rfl) dX6_findsWaiter_45 (fun v9 u_7 hp => ?_)
      obtain ⟨r_8, rfl, hw⟩ := hp
      refine GK.at (p2 := 48) rfl ?_
      refine gk_if_ne (pc := 48) (tgt := 66) C.1 dX6_findsWaiter_48 (by decide) (fun c_9 => ?_) (fun c_9 => ?_)
      · replace hw := hw.1 c_9
        refine GK.sub (lv' := [(0, .ref G.2.2.1)]) [2] rfl ?_
        exact kt_findsWaiter_66 C hG hret hXn   _ hw
      · replace hw := hw.2 c_9
        refine gk_aload_n (pc := 51) C.1 2 dX6_findsWaiter_51 rfl rfl ?_
        refine gk_iload_n (pc := 52) C.1 5 dX6_findsWaiter_52 rfl rfl ?_
        refine gk_aload_n (pc := 53) C.1 2 dX6_findsWaiter_53 rfl rfl ?_
        refine tk_getA (pc := 54) C (k := 5) (by decide) (by decide) q2126 rfl dX6_findsWaiter_54 ?_
        refine gk_iload (pc := 57) C.1 0 dX6_findsWaiter_57 rfl ?_
        obtain ⟨hi, hw⟩ := hw
        refine tk_ald (pc := 59) C (k := 5) (by decide) hi dX6_findsWaiter_59 ?_
        refine tk_callV (pc := 60) (y := yX6_isAnyBelow) (n := 2) (As := [.int x3, .int (u_7.1 5 r_4.toNatClampNeg)]) (rest := []) C (wk_isAnyBelow (ev_l X) hG hw) q2521 q2523 qs113 q2524 ⟨rfl, by decide +kernel⟩ ⟨by decide, by decide⟩ rfl rfl (Nat.le_of_ble_eq_true rfl) dX6_findsWaiter_60 (fun v9 u_10 hp => ?_)
        obtain ⟨r_11, rfl, hw⟩ := hp
        refine GK.at (p2 := 63) rfl ?_
        refine gk_if_eq (pc := 63) (tgt := 79) C.1 dX6_findsWaiter_63 (by decide) (fun c_12 => ?_) (fun c_12 => ?_)
        · replace hw := hw.1 c_12
          refine gk_aload_n (pc := 79) C.1 2 dX6_findsWaiter_79 rfl rfl ?_
          refine tk_getA (pc := 80) C (k := 17) (by decide) (by decide) q2138 rfl dX6_findsWaiter_80 ?_
          refine gk_iload_n (pc := 83) C.1 3 dX6_findsWaiter_83 rfl rfl ?_
          obtain ⟨hi, hw⟩ := hw
          refine tk_ald (pc := 84) C (k := 17) (by decide) hi dX6_findsWaiter_84 ?_
          refine gk_bipush (pc := 85) (v := 60) C.1 dX6_findsWaiter_85 (by decide) ?_
          refine gk_icmp_ne (pc := 87) (tgt := 117) C.1 dX6_findsWaiter_87 (by decide) (fun c_13 => ?_) (fun c_13 => ?_)
          · replace hw := hw.1 c_13
            refine GK.sub (lv' := [(0, .ref G.2.2.1), (1, .int x1), (4, .int r_2), (5, .int r_4)]) [2, 3, 1, 0] rfl ?_
            exact kt_findsWaiter_117 C hG hret hXn  _ _ _ _ hw
          · replace hw := hw.2 c_13
            refine gk_aload_n (pc := 90) C.1 2 dX6_findsWaiter_90 rfl rfl ?_
            refine gk_iload (pc := 91) C.1 1 dX6_findsWaiter_91 rfl ?_
            refine gk_iload (pc := 93) C.1 0 dX6_findsWaiter_93 rfl ?_
            refine tk_callV (pc := 95) (y := yX6_isLess) (n := 2) (As := [.int r_2, .int r_4]) (rest := []) C (wk_isLess (ev_l X) hG hw) q2528 q2530 qs114 q2531 ⟨rfl, by decide +kernel⟩ ⟨by decide, by decide⟩ rfl rfl (Nat.le_of_ble_eq_true rfl) dX6_findsWaiter_95 (fun v9 u_14 hp => ?_)
            obtain ⟨r_15, rfl, hw⟩ := hp
            refine GK.at (p2 := 98) rfl ?_
            refine gk_if_ne (pc := 98) (tgt := 117) C.1 dX6_findsWaiter_98 (by decide) (fun c_16 => ?_) (fun c_16 => ?_)
            · replace hw := hw.1 c_16
              refine GK.sub (lv' := [(0, .ref G.2.2.1), (1, .int x1), (4, .int r_2), (5, .int r_4)]) [2, 3, 1, 0] rfl ?_
              exact kt_findsWaiter_117 C hG hret hXn  _ _ _ _ hw
            · replace hw := hw.2 c_16
              refine gk_aload_n (pc := 101) C.1 2 dX6_findsWaiter_101 rfl rfl ?_
              refine gk_aload_n (pc := 102) C.1 2 dX6_findsWaiter_102 rfl rfl ?_
              refine tk_getA (pc := 103) C (k := 5) (by decide) (by decide) q2126 rfl dX6_findsWaiter_103 ?_
              refine gk_iload (pc := 106) C.1 0 dX6_findsWaiter_106 rfl ?_
              obtain ⟨hi, hw⟩ := hw
              refine tk_ald (pc := 108) C (k := 5) (by decide) hi dX6_findsWaiter_108 ?_
              refine gk_bipush (pc := 109) (v := 8) C.1 dX6_findsWaiter_109 (by decide) ?_
              refine tk_callV (pc := 111) (y := yX6_finds) (n := 2) (As := [.int (u_14.1 5 r_4.toNatClampNeg), .int 8]) (rest := []) C (wk_finds (ev_l X) hG hw) q2477 q2479 qs102 q2480 ⟨rfl, by decide +kernel⟩ ⟨by decide, by decide⟩ rfl rfl (Nat.le_of_ble_eq_true rfl) dX6_findsWaiter_111 (fun v9 u_17 hp => ?_)
              obtain ⟨rfl, hw⟩ := hp
              refine GK.at (p2 := 114) rfl ?_
              refine gk_goto (pc := 114) (tgt := 152) C.1 dX6_findsWaiter_114 (by decide) ?_
              exact tk_vret (pc := 152) C hret dX6_findsWaiter_152 hw
        · replace hw := hw.2 c_12
          refine GK.sub (lv' := [(0, .ref G.2.2.1)]) [2] rfl ?_
          exact kt_findsWaiter_66 C hG hret hXn   _ hw
/-! endsRecord(II)V -/
def wt_endsRecord_59 (k : TS → Prop) (J31 : Int32 → Int32 → Int32 → Int32 → TS → Prop) (x1 : Int32) (x2 : Int32) (x3 : Int32) (x4 : Int32) (u : TS) : Prop := ∀ x_1 : Int32, x_1 = x4 + 1 → (J31 x1 x2 x3 x_1 u)
theorem kt_endsRecord_59 {X : Ev} {G : TG} {k : TS → Prop} {J31 : Int32 → Int32 → Int32 → Int32 → TS → Prop} (C : TC X G cX6_endsRecord 5) (hG : TD G) (hret : (ev_h X).sig.returnType = none) (hXn : ev_n X = 5) (hJ31 : ∀ (x1 : Int32) (x2 : Int32) (x3 : Int32) (x4 : Int32) (u : TS), J31 x1 x2 x3 x4 u → GK X (TP G u) 0 0 (tQ X G (tV k)) 31 [(0, .ref G.2.2.1), (1, .int x1), (2, .int x2), (3, .int x3), (4, .int x4)] []) : ∀ (x1 : Int32) (x2 : Int32) (x3 : Int32) (x4 : Int32) (u : TS), wt_endsRecord_59 k J31 x1 x2 x3 x4 u → GK X (TP G u) 0 0 (tQ X G (tV k)) 59 [(0, .ref G.2.2.1), (1, .int x1), (2, .int x2), (3, .int x3), (4, .int x4)] [] := by
  intro x1 x2 x3 x4 u hw
  unfold wt_endsRecord_59 at hw
  obtain ⟨x_1, ex_1⟩ : ∃ z : Int32, z = x4 + 1 := ⟨_, rfl⟩
  replace hw := hw x_1 ex_1
  refine gk_iinc (pc := 59) (v := x_1) (lv' := [(4, Value.int x_1), (0, Value.ref G.2.2.1), (1, Value.int x1), (2, Value.int x2), (3, Value.int x3)]) C.1 4 dX6_endsRecord_59 rfl (by rw [ex_1]; rfl) (by rw [hXn]; decide) rfl ?_
  refine gk_goto (pc := 62) (tgt := 31) C.1 dX6_endsRecord_62 (by decide) ?_
  refine GK.sub (lv' := [(0, .ref G.2.2.1), (1, .int x1), (2, .int x2), (3, .int x3), (4, .int x_1)]) [1, 2, 3, 4, 0] rfl ?_
  exact hJ31 _ _ _ _ _ hw
def wt_endsRecord_31 (k : TS → Prop) : Nat → Int32 → Int32 → Int32 → Int32 → TS → Prop
  | 0 => fun _ _ _ _ _ => False
  | n + 1 => fun x1 x2 x3 x4 u => (((u.2 22) ≤ x4 → (k u)) ∧ (¬ (u.2 22) ≤ x4 → (vp_in x4 33 ∧ (((¬ (u.1 16 x4.toNatClampNeg) = x1 → (wt_endsRecord_59 k (fun yx1 yx2 yx3 yx4 yu => wt_endsRecord_31 k n yx1 yx2 yx3 yx4 yu) x1 x2 x3 x4 u)) ∧ ((u.1 16 x4.toNatClampNeg) = x1 → (wt_findsWaiter (fun u_3 => wt_endsRecord_59 k (fun yx1 yx2 yx3 yx4 yu => wt_endsRecord_31 k n yx1 yx2 yx3 yx4 yu) x1 x2 x3 x4 u_3) x4 x2 x3 u)))))))
theorem kt_endsRecord_31 {X : Ev} {G : TG} {k : TS → Prop} (C : TC X G cX6_endsRecord 5) (hG : TD G) (hret : (ev_h X).sig.returnType = none) (hXn : ev_n X = 5) : ∀ (n : Nat) (x1 : Int32) (x2 : Int32) (x3 : Int32) (x4 : Int32) (u : TS), wt_endsRecord_31 k n x1 x2 x3 x4 u → GK X (TP G u) 0 0 (tQ X G (tV k)) 31 [(0, .ref G.2.2.1), (1, .int x1), (2, .int x2), (3, .int x3), (4, .int x4)] [] := by
  intro n
  induction n with
  | zero => intro x1 x2 x3 x4 u hw; exact hw.elim
  | succ n ih =>
  intro x1 x2 x3 x4 u hw
  unfold wt_endsRecord_31 at hw
  refine gk_iload (pc := 31) C.1 4 dX6_endsRecord_31 rfl ?_
  refine gk_aload_n (pc := 33) C.1 0 dX6_endsRecord_33 rfl rfl ?_
  refine tk_getI (pc := 34) C (k := 22) (by decide) (by decide) q2143 rfl dX6_endsRecord_34 ?_
  refine gk_icmp_ge (pc := 37) (tgt := 65) C.1 dX6_endsRecord_37 (by decide) (fun c_1 => ?_) (fun c_1 => ?_)
  · replace hw := hw.1 c_1
    exact tk_vret (pc := 65) C hret dX6_endsRecord_65 hw
  · replace hw := hw.2 c_1
    refine gk_aload_n (pc := 40) C.1 0 dX6_endsRecord_40 rfl rfl ?_
    refine tk_getA (pc := 41) C (k := 16) (by decide) (by decide) q2137 rfl dX6_endsRecord_41 ?_
    refine gk_iload (pc := 44) C.1 4 dX6_endsRecord_44 rfl ?_
    obtain ⟨hi, hw⟩ := hw
    refine tk_ald (pc := 46) C (k := 16) (by decide) hi dX6_endsRecord_46 ?_
    refine gk_iload_n (pc := 47) C.1 1 dX6_endsRecord_47 rfl rfl ?_
    refine gk_icmp_ne (pc := 48) (tgt := 59) C.1 dX6_endsRecord_48 (by decide) (fun c_2 => ?_) (fun c_2 => ?_)
    · replace hw := hw.1 c_2
      refine GK.sub (lv' := [(0, .ref G.2.2.1), (1, .int x1), (2, .int x2), (3, .int x3), (4, .int x4)]) [0, 1, 2, 3, 4] rfl ?_
      exact kt_endsRecord_59 C hG hret hXn ih _ _ _ _ _ hw
    · replace hw := hw.2 c_2
      refine gk_aload_n (pc := 51) C.1 0 dX6_endsRecord_51 rfl rfl ?_
      refine gk_iload (pc := 52) C.1 4 dX6_endsRecord_52 rfl ?_
      refine gk_iload_n (pc := 54) C.1 2 dX6_endsRecord_54 rfl rfl ?_
      refine gk_iload_n (pc := 55) C.1 3 dX6_endsRecord_55 rfl rfl ?_
      refine tk_callV (pc := 56) (y := yX6_findsWaiter) (n := 3) (As := [.int x4, .int x2, .int x3]) (rest := []) C (wk_findsWaiter (ev_l X) hG hw) q2513 q2515 qs111 q2516 ⟨rfl, by decide +kernel⟩ ⟨by decide, by decide⟩ rfl rfl (Nat.le_of_ble_eq_true rfl) dX6_endsRecord_56 (fun v9 u_3 hp => ?_)
      obtain ⟨rfl, hw⟩ := hp
      refine GK.at (p2 := 59) rfl ?_
      refine GK.sub (lv' := [(0, .ref G.2.2.1), (1, .int x1), (2, .int x2), (3, .int x3), (4, .int x4)]) [0, 1, 2, 3, 4] rfl ?_
      exact kt_endsRecord_59 C hG hret hXn ih _ _ _ _ _ hw
def wt_endsRecord (k : TS → Prop) (x1 : Int32) (x2 : Int32) (u : TS) : Prop := vp_in ((u.2 35) - 1) 400 ∧ (∀ x_1 : Int32, x_1 = u.1 29 ((u.2 35) - 1).toNatClampNeg → (∀ u_2 : TS, u_2 = tpI u 35 ((u.2 35) - 1) → (wt_findsMore (fun u_3 => ∃ fu : Nat, wt_endsRecord_31 k fu x1 x2 x_1 0 u_3) x1 x2 u_2)))
theorem wk_endsRecord (l : Launch) {G : TG} (hG : TD G) {k : TS → Prop} {x1 : Int32} {x2 : Int32} {u : TS} (hw : wt_endsRecord k x1 x2 u) : TMet l yX6_endsRecord cX6_endsRecord 5 (none) 5 G [.ref G.2.2.1, .int x1, .int x2] u (tV k) := by
  refine tk_met hG rfl (Nat.le_of_ble_eq_true rfl) (fun X hXl hXn hret C => ?_)
  subst hXl
  unfold wt_endsRecord at hw
  refine GK.sub (lv' := [(0, .ref G.2.2.1), (1, .int x1), (2, .int x2)]) [0, 1, 2] rfl ?_
  refine gk_aload_n (pc := 0) C.1 0 dX6_endsRecord_0 rfl rfl ?_
  refine tk_getA (pc := 1) C (k := 29) (by decide) (by decide) q2150 rfl dX6_endsRecord_1 ?_
  refine gk_aload_n (pc := 4) C.1 0 dX6_endsRecord_4 rfl rfl ?_
  refine tk_getI (pc := 5) C (k := 35) (by decide) (by decide) q2156 rfl dX6_endsRecord_5 ?_
  refine gk_iconst (pc := 8) (v := 1) C.1 dX6_endsRecord_8 (by decide) ?_
  refine gk_isub (pc := 9) C.1 dX6_endsRecord_9 ?_
  obtain ⟨hi, hw⟩ := hw
  refine tk_ald (pc := 10) C (k := 29) (by decide) hi dX6_endsRecord_10 ?_
  obtain ⟨x_1, ex_1⟩ : ∃ z : Int32, z = u.1 29 ((u.2 35) - 1).toNatClampNeg := ⟨_, rfl⟩
  rw [← ex_1]
  replace hw := hw x_1 ex_1
  refine gk_istore_n (pc := 11) (lv' := [(3, Value.int x_1), (0, Value.ref G.2.2.1), (1, Value.int x1), (2, Value.int x2)]) C.1 dX6_endsRecord_11 rfl (by rw [hXn]; decide) rfl ?_
  refine gk_aload_n (pc := 12) C.1 1 dX6_endsRecord_12 rfl rfl ?_
  refine gk_dup (pc := 13) C.1 dX6_endsRecord_13 rfl ?_
  refine tk_getI (pc := 14) C (k := 35) (by decide) (by decide) q2156 rfl dX6_endsRecord_14 ?_
  refine gk_iconst (pc := 17) (v := 1) C.1 dX6_endsRecord_17 (by decide) ?_
  refine gk_isub (pc := 18) C.1 dX6_endsRecord_18 ?_
  refine tk_putI (pc := 19) C (k := 35) (by decide) (by decide) q2156 rfl rfl (ty := .int) rfl rfl rfl dX6_endsRecord_19 (fun u_2 eu_2 => ?_)
  replace hw := hw u_2 eu_2
  refine gk_aload_n (pc := 22) C.1 1 dX6_endsRecord_22 rfl rfl ?_
  refine gk_iload_n (pc := 23) C.1 2 dX6_endsRecord_23 rfl rfl ?_
  refine gk_iload_n (pc := 24) C.1 3 dX6_endsRecord_24 rfl rfl ?_
  refine tk_callV (pc := 25) (y := yX6_findsMore) (n := 2) (As := [.int x1, .int x2]) (rest := []) C (wk_findsMore (ev_l X) hG hw) q2501 q2503 qs108 q2504 ⟨rfl, by decide +kernel⟩ ⟨by decide, by decide⟩ rfl rfl (Nat.le_of_ble_eq_true rfl) dX6_endsRecord_25 (fun v9 u_3 hp => ?_)
  obtain ⟨rfl, hw⟩ := hp
  refine GK.at (p2 := 28) rfl ?_
  refine gk_iconst (pc := 28) (v := 0) C.1 dX6_endsRecord_28 (by decide) ?_
  refine gk_istore (pc := 29) (lv' := [(4, Value.int 0), (3, Value.int x_1), (0, Value.ref G.2.2.1), (1, Value.int x1), (2, Value.int x2)]) C.1 dX6_endsRecord_29 (by rw [hXn]; decide) rfl ?_
  refine GK.sub (lv' := [(0, .ref G.2.2.1), (1, .int x1), (2, .int x2), (3, .int x_1), (4, .int 0)]) [2, 3, 4, 1, 0] rfl ?_
  obtain ⟨n9, hw⟩ := hw
  exact kt_endsRecord_31 C hG hret hXn  n9 _ _ _ _ _ hw
/-! fieldAt(II)I -/
def wt_fieldAt_38 (k : Int32 → TS → Prop) (J5 : Int32 → Int32 → Int32 → TS → Prop) (x1 : Int32) (x3 : Int32) (x4 : Int32) (u : TS) : Prop := ∀ x_1 : Int32, x_1 = x4 + 1 → (J5 x1 x3 x_1 u)
theorem kt_fieldAt_38 {X : Ev} {G : TG} {k : Int32 → TS → Prop} {J5 : Int32 → Int32 → Int32 → TS → Prop} (C : TC X G cX6_fieldAt 1) (hG : TD G) (hret : (ev_h X).sig.returnType = some .int) (hXn : ev_n X = 5) (hJ5 : ∀ (x1 : Int32) (x3 : Int32) (x4 : Int32) (u : TS), J5 x1 x3 x4 u → GK X (TP G u) 0 0 (tQ X G (tI k)) 5 [(0, .ref G.2.2.1), (1, .int x1), (3, .int x3), (4, .int x4)] []) : ∀ (x1 : Int32) (x3 : Int32) (x4 : Int32) (u : TS), wt_fieldAt_38 k J5 x1 x3 x4 u → GK X (TP G u) 0 0 (tQ X G (tI k)) 38 [(0, .ref G.2.2.1), (1, .int x1), (3, .int x3), (4, .int x4)] [] := by
  intro x1 x3 x4 u hw
  unfold wt_fieldAt_38 at hw
  obtain ⟨x_1, ex_1⟩ : ∃ z : Int32, z = x4 + 1 := ⟨_, rfl⟩
  replace hw := hw x_1 ex_1
  refine gk_iinc (pc := 38) (v := x_1) (lv' := [(4, Value.int x_1), (0, Value.ref G.2.2.1), (1, Value.int x1), (3, Value.int x3)]) C.1 3 dX6_fieldAt_38 rfl (by rw [ex_1]; rfl) (by rw [hXn]; decide) rfl ?_
  refine gk_goto (pc := 41) (tgt := 5) C.1 dX6_fieldAt_41 (by decide) ?_
  refine GK.sub (lv' := [(0, .ref G.2.2.1), (1, .int x1), (3, .int x3), (4, .int x_1)]) [1, 2, 3, 0] rfl ?_
  exact hJ5 _ _ _ _ hw
def wt_fieldAt_5 (k : Int32 → TS → Prop) : Nat → Int32 → Int32 → Int32 → TS → Prop
  | 0 => fun _ _ _ _ => False
  | n + 1 => fun x1 x3 x4 u => (((u.2 21) ≤ x4 → (k (-9) u)) ∧ (¬ (u.2 21) ≤ x4 → (vp_in x4 25 ∧ ((((u.1 12 x4.toNatClampNeg) = x1 → (((¬ x3 = 0 → (∀ x_4 : Int32, x_4 = x3 + (-1) → (wt_fieldAt_38 k (fun yx1 yx3 yx4 yu => wt_fieldAt_5 k n yx1 yx3 yx4 yu) x1 x_4 x4 u))) ∧ (x3 = 0 → (k x4 u))))) ∧ (¬ (u.1 12 x4.toNatClampNeg) = x1 → (wt_fieldAt_38 k (fun yx1 yx3 yx4 yu => wt_fieldAt_5 k n yx1 yx3 yx4 yu) x1 x3 x4 u)))))))
theorem kt_fieldAt_5 {X : Ev} {G : TG} {k : Int32 → TS → Prop} (C : TC X G cX6_fieldAt 1) (hG : TD G) (hret : (ev_h X).sig.returnType = some .int) (hXn : ev_n X = 5) : ∀ (n : Nat) (x1 : Int32) (x3 : Int32) (x4 : Int32) (u : TS), wt_fieldAt_5 k n x1 x3 x4 u → GK X (TP G u) 0 0 (tQ X G (tI k)) 5 [(0, .ref G.2.2.1), (1, .int x1), (3, .int x3), (4, .int x4)] [] := by
  intro n
  induction n with
  | zero => intro x1 x3 x4 u hw; exact hw.elim
  | succ n ih =>
  intro x1 x3 x4 u hw
  unfold wt_fieldAt_5 at hw
  refine gk_iload (pc := 5) C.1 3 dX6_fieldAt_5 rfl ?_
  refine gk_aload_n (pc := 7) C.1 0 dX6_fieldAt_7 rfl rfl ?_
  refine tk_getI (pc := 8) C (k := 21) (by decide) (by decide) q2142 rfl dX6_fieldAt_8 ?_
  refine gk_icmp_ge (pc := 11) (tgt := 44) C.1 dX6_fieldAt_11 (by decide) (fun c_1 => ?_) (fun c_1 => ?_)
  · replace hw := hw.1 c_1
    refine gk_bipush (pc := 44) (v := (-9)) C.1 dX6_fieldAt_44 (by decide) ?_
    exact tk_iret (pc := 46) C hret dX6_fieldAt_46 hw
  · replace hw := hw.2 c_1
    refine gk_aload_n (pc := 14) C.1 0 dX6_fieldAt_14 rfl rfl ?_
    refine tk_getA (pc := 15) C (k := 12) (by decide) (by decide) q2133 rfl dX6_fieldAt_15 ?_
    refine gk_iload (pc := 18) C.1 3 dX6_fieldAt_18 rfl ?_
    obtain ⟨hi, hw⟩ := hw
    refine tk_ald (pc := 20) C (k := 12) (by decide) hi dX6_fieldAt_20 ?_
    refine gk_iload_n (pc := 21) C.1 1 dX6_fieldAt_21 rfl rfl ?_
    refine gk_icmp_eq (pc := 22) (tgt := 28) C.1 dX6_fieldAt_22 (by decide) (fun c_2 => ?_) (fun c_2 => ?_)
    · replace hw := hw.1 c_2
      refine gk_iload_n (pc := 28) C.1 2 dX6_fieldAt_28 rfl rfl ?_
      refine gk_if_ne (pc := 29) (tgt := 35) C.1 dX6_fieldAt_29 (by decide) (fun c_3 => ?_) (fun c_3 => ?_)
      · replace hw := hw.1 c_3
        obtain ⟨x_4, ex_4⟩ : ∃ z : Int32, z = x3 + (-1) := ⟨_, rfl⟩
        replace hw := hw x_4 ex_4
        refine gk_iinc (pc := 35) (v := x_4) (lv' := [(3, Value.int x_4), (0, Value.ref G.2.2.1), (1, Value.int x1), (4, Value.int x4)]) C.1 2 dX6_fieldAt_35 rfl (by rw [ex_4]; rfl) (by rw [hXn]; decide) rfl ?_
        refine GK.sub (lv' := [(0, .ref G.2.2.1), (1, .int x1), (3, .int x_4), (4, .int x4)]) [1, 2, 0, 3] rfl ?_
        exact kt_fieldAt_38 C hG hret hXn ih _ _ _ _ hw
      · replace hw := hw.2 c_3
        refine gk_iload (pc := 32) C.1 3 dX6_fieldAt_32 rfl ?_
        exact tk_iret (pc := 34) C hret dX6_fieldAt_34 hw
    · replace hw := hw.2 c_2
      refine gk_goto (pc := 25) (tgt := 38) C.1 dX6_fieldAt_25 (by decide) ?_
      refine GK.sub (lv' := [(0, .ref G.2.2.1), (1, .int x1), (3, .int x3), (4, .int x4)]) [0, 1, 2, 3] rfl ?_
      exact kt_fieldAt_38 C hG hret hXn ih _ _ _ _ hw
def wt_fieldAt (k : Int32 → TS → Prop) (x1 : Int32) (x2 : Int32) (u : TS) : Prop := ∃ fu : Nat, wt_fieldAt_5 k fu x1 x2 0 u
theorem wk_fieldAt (l : Launch) {G : TG} (hG : TD G) {k : Int32 → TS → Prop} {x1 : Int32} {x2 : Int32} {u : TS} (hw : wt_fieldAt k x1 x2 u) : TMet l yX6_fieldAt cX6_fieldAt 5 (some .int) 1 G [.ref G.2.2.1, .int x1, .int x2] u (tI k) := by
  refine tk_met hG rfl (Nat.le_of_ble_eq_true rfl) (fun X hXl hXn hret C => ?_)
  subst hXl
  unfold wt_fieldAt at hw
  refine GK.sub (lv' := [(0, .ref G.2.2.1), (1, .int x1), (2, .int x2)]) [0, 1, 2] rfl ?_
  refine gk_iload_n (pc := 0) C.1 2 dX6_fieldAt_0 rfl rfl ?_
  refine gk_istore_n (pc := 1) (lv' := [(3, Value.int x2), (0, Value.ref G.2.2.1), (1, Value.int x1), (2, Value.int x2)]) C.1 dX6_fieldAt_1 rfl (by rw [hXn]; decide) rfl ?_
  refine gk_iconst (pc := 2) (v := 0) C.1 dX6_fieldAt_2 (by decide) ?_
  refine gk_istore (pc := 3) (lv' := [(4, Value.int 0), (3, Value.int x2), (0, Value.ref G.2.2.1), (1, Value.int x1), (2, Value.int x2)]) C.1 dX6_fieldAt_3 (by rw [hXn]; decide) rfl ?_
  refine GK.sub (lv' := [(0, .ref G.2.2.1), (1, .int x1), (3, .int x2), (4, .int 0)]) [2, 3, 1, 0] rfl ?_
  obtain ⟨n9, hw⟩ := hw
  exact kt_fieldAt_5 C hG hret hXn  n9 _ _ _ _ hw
/-! findsRecord(II)V -/
def wt_findsRecord_67 (k : TS → Prop) (x1 : Int32) (x2 : Int32) (x3 : Int32) (u : TS) : Prop := wt_fieldAt (fun r_2 u_1 => ((0 ≤ r_2 → (vp_in ((u_1.2 35) - 1) 400 ∧ (vp_in ((u_1.2 35) - 1) 400 ∧ (∀ u_4 : TS, u_4 = tpA u_1 28 ((u_1.2 35) - 1).toNatClampNeg ((u_1.1 28 ((u_1.2 35) - 1).toNatClampNeg) + 1) → (vp_in r_2 25 ∧ (wt_fieldOf (fun r_6 u_5 => ((r_6 < 0 → (vp_in r_2 25 ∧ (((¬ (u_5.1 14 r_2.toNatClampNeg) = 0 → (k u_5)) ∧ ((u_5.1 14 r_2.toNatClampNeg) = 0 → (vp_in x2 21 ∧ (vp_in r_2 25 ∧ (wt_finds (fun u_9 => k u_9) ((10 * (u_5.1 5 x2.toNatClampNeg)) + (u_5.1 13 r_2.toNatClampNeg)) 6 u_5)))))))) ∧ (¬ r_6 < 0 → (vp_in r_2 25 ∧ (wt_looks (fun u_10 => k u_10) (u_5.1 15 r_2.toNatClampNeg) r_6 u_5))))) x2 (u_4.1 13 r_2.toNatClampNeg) u_4)))))) ∧ (¬ 0 ≤ r_2 → (wt_endsRecord (fun u_11 => k u_11) x1 x2 u_1)))) x1 x3 u
theorem kt_findsRecord_67 {X : Ev} {G : TG} {k : TS → Prop} (C : TC X G cX6_findsRecord 6) (hG : TD G) (hret : (ev_h X).sig.returnType = none) (hXn : ev_n X = 6) : ∀ (x1 : Int32) (x2 : Int32) (x3 : Int32) (u : TS), wt_findsRecord_67 k x1 x2 x3 u → GK X (TP G u) 0 0 (tQ X G (tV k)) 67 [(0, .ref G.2.2.1), (1, .int x1), (2, .int x2), (3, .int x3)] [] := by
  intro x1 x2 x3 u hw
  unfold wt_findsRecord_67 at hw
  refine gk_aload_n (pc := 67) C.1 0 dX6_findsRecord_67 rfl rfl ?_
  refine gk_iload_n (pc := 68) C.1 1 dX6_findsRecord_68 rfl rfl ?_
  refine gk_iload_n (pc := 69) C.1 3 dX6_findsRecord_69 rfl rfl ?_
  refine tk_callV (pc := 70) (y := yX6_fieldAt) (n := 2) (As := [.int x1, .int x3]) (rest := []) C (wk_fieldAt (ev_l X) hG hw) q2493 q2495 qs106 q2496 ⟨rfl, by decide +kernel⟩ ⟨by decide, by decide⟩ rfl rfl (Nat.le_of_ble_eq_true rfl) dX6_findsRecord_70 (fun v9 u_1 hp => ?_)
  obtain ⟨r_2, rfl, hw⟩ := hp
  refine GK.at (p2 := 73) rfl ?_
  refine gk_istore (pc := 73) (lv' := [(4, Value.int r_2), (0, Value.ref G.2.2.1), (1, Value.int x1), (2, Value.int x2), (3, Value.int x3)]) C.1 dX6_findsRecord_73 (by rw [hXn]; decide) rfl ?_
  refine gk_iload (pc := 75) C.1 0 dX6_findsRecord_75 rfl ?_
  refine gk_if_ge (pc := 77) (tgt := 87) C.1 dX6_findsRecord_77 (by decide) (fun c_3 => ?_) (fun c_3 => ?_)
  · replace hw := hw.1 c_3
    refine gk_aload_n (pc := 87) C.1 1 dX6_findsRecord_87 rfl rfl ?_
    refine tk_getA (pc := 88) C (k := 28) (by decide) (by decide) q2149 rfl dX6_findsRecord_88 ?_
    refine gk_aload_n (pc := 91) C.1 1 dX6_findsRecord_91 rfl rfl ?_
    refine tk_getI (pc := 92) C (k := 35) (by decide) (by decide) q2156 rfl dX6_findsRecord_92 ?_
    refine gk_iconst (pc := 95) (v := 1) C.1 dX6_findsRecord_95 (by decide) ?_
    refine gk_isub (pc := 96) C.1 dX6_findsRecord_96 ?_
    refine gk_dup2 (pc := 97) C.1 dX6_findsRecord_97 rfl rfl ?_
    obtain ⟨hi, hw⟩ := hw
    refine tk_ald (pc := 98) C (k := 28) (by decide) hi dX6_findsRecord_98 ?_
    refine gk_iconst (pc := 99) (v := 1) C.1 dX6_findsRecord_99 (by decide) ?_
    refine gk_iadd (pc := 100) C.1 dX6_findsRecord_100 ?_
    obtain ⟨hi, hw⟩ := hw
    refine tk_ast (pc := 101) C (k := 28) (by decide) hi dX6_findsRecord_101 (fun u_4 eu_4 => ?_)
    replace hw := hw u_4 eu_4
    refine gk_aload_n (pc := 102) C.1 1 dX6_findsRecord_102 rfl rfl ?_
    refine gk_iload_n (pc := 103) C.1 3 dX6_findsRecord_103 rfl rfl ?_
    refine gk_aload_n (pc := 104) C.1 1 dX6_findsRecord_104 rfl rfl ?_
    refine tk_getA (pc := 105) C (k := 13) (by decide) (by decide) q2134 rfl dX6_findsRecord_105 ?_
    refine gk_iload (pc := 108) C.1 0 dX6_findsRecord_108 rfl ?_
    obtain ⟨hi, hw⟩ := hw
    refine tk_ald (pc := 110) C (k := 13) (by decide) hi dX6_findsRecord_110 ?_
    refine tk_callV (pc := 111) (y := yX6_fieldOf) (n := 2) (As := [.int x2, .int (u_4.1 13 r_2.toNatClampNeg)]) (rest := []) C (wk_fieldOf (ev_l X) hG hw) q2517 q2519 qs112 q2520 ⟨rfl, by decide +kernel⟩ ⟨by decide, by decide⟩ rfl rfl (Nat.le_of_ble_eq_true rfl) dX6_findsRecord_111 (fun v9 u_5 hp => ?_)
    obtain ⟨r_6, rfl, hw⟩ := hp
    refine GK.at (p2 := 114) rfl ?_
    refine gk_istore (pc := 114) (lv' := [(5, Value.int r_6), (4, Value.int r_2), (0, Value.ref G.2.2.1), (1, Value.int x1), (2, Value.int x2), (3, Value.int x3)]) C.1 dX6_findsRecord_114 (by rw [hXn]; decide) rfl ?_
    refine gk_iload (pc := 116) C.1 0 dX6_findsRecord_116 rfl ?_
    refine gk_if_lt (pc := 118) (tgt := 137) C.1 dX6_findsRecord_118 (by decide) (fun c_7 => ?_) (fun c_7 => ?_)
    · replace hw := hw.1 c_7
      refine gk_aload_n (pc := 137) C.1 2 dX6_findsRecord_137 rfl rfl ?_
      refine tk_getA (pc := 138) C (k := 14) (by decide) (by decide) q2135 rfl dX6_findsRecord_138 ?_
      refine gk_iload (pc := 141) C.1 1 dX6_findsRecord_141 rfl ?_
      obtain ⟨hi, hw⟩ := hw
      refine tk_ald (pc := 143) C (k := 14) (by decide) hi dX6_findsRecord_143 ?_
      refine gk_if_ne (pc := 144) (tgt := 170) C.1 dX6_findsRecord_144 (by decide) (fun c_8 => ?_) (fun c_8 => ?_)
      · replace hw := hw.1 c_8
        exact tk_vret (pc := 170) C hret dX6_findsRecord_170 hw
      · replace hw := hw.2 c_8
        refine gk_aload_n (pc := 147) C.1 2 dX6_findsRecord_147 rfl rfl ?_
        refine gk_bipush (pc := 148) (v := 10) C.1 dX6_findsRecord_148 (by decide) ?_
        refine gk_aload_n (pc := 150) C.1 2 dX6_findsRecord_150 rfl rfl ?_
        refine tk_getA (pc := 151) C (k := 5) (by decide) (by decide) q2126 rfl dX6_findsRecord_151 ?_
        refine gk_iload_n (pc := 154) C.1 4 dX6_findsRecord_154 rfl rfl ?_
        obtain ⟨hi, hw⟩ := hw
        refine tk_ald (pc := 155) C (k := 5) (by decide) hi dX6_findsRecord_155 ?_
        refine gk_imul (pc := 156) C.1 dX6_findsRecord_156 ?_
        refine gk_aload_n (pc := 157) C.1 2 dX6_findsRecord_157 rfl rfl ?_
        refine tk_getA (pc := 158) C (k := 13) (by decide) (by decide) q2134 rfl dX6_findsRecord_158 ?_
        refine gk_iload (pc := 161) C.1 1 dX6_findsRecord_161 rfl ?_
        obtain ⟨hi, hw⟩ := hw
        refine tk_ald (pc := 163) C (k := 13) (by decide) hi dX6_findsRecord_163 ?_
        refine gk_iadd (pc := 164) C.1 dX6_findsRecord_164 ?_
        refine gk_bipush (pc := 165) (v := 6) C.1 dX6_findsRecord_165 (by decide) ?_
        refine tk_callV (pc := 167) (y := yX6_finds) (n := 2) (As := [.int ((10 * (u_5.1 5 x2.toNatClampNeg)) + (u_5.1 13 r_2.toNatClampNeg)), .int 6]) (rest := []) C (wk_finds (ev_l X) hG hw) q2477 q2479 qs102 q2480 ⟨rfl, by decide +kernel⟩ ⟨by decide, by decide⟩ rfl rfl (Nat.le_of_ble_eq_true rfl) dX6_findsRecord_167 (fun v9 u_9 hp => ?_)
        obtain ⟨rfl, hw⟩ := hp
        refine GK.at (p2 := 170) rfl ?_
        exact tk_vret (pc := 170) C hret dX6_findsRecord_170 hw
    · replace hw := hw.2 c_7
      refine gk_aload_n (pc := 121) C.1 2 dX6_findsRecord_121 rfl rfl ?_
      refine gk_aload_n (pc := 122) C.1 2 dX6_findsRecord_122 rfl rfl ?_
      refine tk_getA (pc := 123) C (k := 15) (by decide) (by decide) q2136 rfl dX6_findsRecord_123 ?_
      refine gk_iload (pc := 126) C.1 1 dX6_findsRecord_126 rfl ?_
      obtain ⟨hi, hw⟩ := hw
      refine tk_ald (pc := 128) C (k := 15) (by decide) hi dX6_findsRecord_128 ?_
      refine gk_iload (pc := 129) C.1 0 dX6_findsRecord_129 rfl ?_
      refine tk_callV (pc := 131) (y := yX6_looks) (n := 2) (As := [.int (u_5.1 15 r_2.toNatClampNeg), .int r_6]) (rest := []) C (wk_looks (ev_l X) hG hw) q2465 q2467 qs99 q2468 ⟨rfl, by decide +kernel⟩ ⟨by decide, by decide⟩ rfl rfl (Nat.le_of_ble_eq_true rfl) dX6_findsRecord_131 (fun v9 u_10 hp => ?_)
      obtain ⟨rfl, hw⟩ := hp
      refine GK.at (p2 := 134) rfl ?_
      refine gk_goto (pc := 134) (tgt := 170) C.1 dX6_findsRecord_134 (by decide) ?_
      exact tk_vret (pc := 170) C hret dX6_findsRecord_170 hw
  · replace hw := hw.2 c_3
    refine gk_aload_n (pc := 80) C.1 1 dX6_findsRecord_80 rfl rfl ?_
    refine gk_iload_n (pc := 81) C.1 2 dX6_findsRecord_81 rfl rfl ?_
    refine gk_iload_n (pc := 82) C.1 3 dX6_findsRecord_82 rfl rfl ?_
    refine tk_callV (pc := 83) (y := yX6_endsRecord) (n := 2) (As := [.int x1, .int x2]) (rest := []) C (wk_endsRecord (ev_l X) hG hw) q2497 q2499 qs107 q2500 ⟨rfl, by decide +kernel⟩ ⟨by decide, by decide⟩ rfl rfl (Nat.le_of_ble_eq_true rfl) dX6_findsRecord_83 (fun v9 u_11 hp => ?_)
    obtain ⟨rfl, hw⟩ := hp
    refine GK.at (p2 := 86) rfl ?_
    exact tk_vret (pc := 86) C hret dX6_findsRecord_86 hw
def wt_findsRecord_48 (k : TS → Prop) (x1 : Int32) (x2 : Int32) (x3 : Int32) (u : TS) : Prop := ((¬ x3 = 0 → (wt_findsRecord_67 k x1 x2 x3 u)) ∧ (x3 = 0 → (vp_in ((u.2 35) - 1) 400 ∧ (∀ u_2 : TS, u_2 = tpA u 29 ((u.2 35) - 1).toNatClampNeg (u.2 33) → (wt_findsRecord_67 k x1 x2 x3 u_2)))))
theorem kt_findsRecord_48 {X : Ev} {G : TG} {k : TS → Prop} (C : TC X G cX6_findsRecord 6) (hG : TD G) (hret : (ev_h X).sig.returnType = none) (hXn : ev_n X = 6) : ∀ (x1 : Int32) (x2 : Int32) (x3 : Int32) (u : TS), wt_findsRecord_48 k x1 x2 x3 u → GK X (TP G u) 0 0 (tQ X G (tV k)) 48 [(0, .ref G.2.2.1), (1, .int x1), (2, .int x2), (3, .int x3)] [] := by
  intro x1 x2 x3 u hw
  unfold wt_findsRecord_48 at hw
  refine gk_iload_n (pc := 48) C.1 3 dX6_findsRecord_48 rfl rfl ?_
  refine gk_if_ne (pc := 49) (tgt := 67) C.1 dX6_findsRecord_49 (by decide) (fun c_1 => ?_) (fun c_1 => ?_)
  · replace hw := hw.1 c_1
    refine GK.sub (lv' := [(0, .ref G.2.2.1), (1, .int x1), (2, .int x2), (3, .int x3)]) [0, 1, 2, 3] rfl ?_
    exact kt_findsRecord_67 C hG hret hXn  _ _ _ _ hw
  · replace hw := hw.2 c_1
    refine gk_aload_n (pc := 52) C.1 0 dX6_findsRecord_52 rfl rfl ?_
    refine tk_getA (pc := 53) C (k := 29) (by decide) (by decide) q2150 rfl dX6_findsRecord_53 ?_
    refine gk_aload_n (pc := 56) C.1 0 dX6_findsRecord_56 rfl rfl ?_
    refine tk_getI (pc := 57) C (k := 35) (by decide) (by decide) q2156 rfl dX6_findsRecord_57 ?_
    refine gk_iconst (pc := 60) (v := 1) C.1 dX6_findsRecord_60 (by decide) ?_
    refine gk_isub (pc := 61) C.1 dX6_findsRecord_61 ?_
    refine gk_aload_n (pc := 62) C.1 0 dX6_findsRecord_62 rfl rfl ?_
    refine tk_getI (pc := 63) C (k := 33) (by decide) (by decide) q2154 rfl dX6_findsRecord_63 ?_
    obtain ⟨hi, hw⟩ := hw
    refine tk_ast (pc := 66) C (k := 29) (by decide) hi dX6_findsRecord_66 (fun u_2 eu_2 => ?_)
    replace hw := hw u_2 eu_2
    refine GK.sub (lv' := [(0, .ref G.2.2.1), (1, .int x1), (2, .int x2), (3, .int x3)]) [0, 1, 2, 3] rfl ?_
    exact kt_findsRecord_67 C hG hret hXn  _ _ _ _ hw
def wt_findsRecord (k : TS → Prop) (x1 : Int32) (x2 : Int32) (u : TS) : Prop := vp_in ((u.2 35) - 1) 400 ∧ (∀ x_1 : Int32, x_1 = u.1 28 ((u.2 35) - 1).toNatClampNeg → (((¬ x_1 = 0 → (wt_findsRecord_48 k x1 x2 x_1 u)) ∧ (x_1 = 0 → (vp_in x2 21 ∧ ((((u.1 1 x2.toNatClampNeg) = 2 → (wt_findsRecord_48 k x1 x2 x_1 u)) ∧ (¬ (u.1 1 x2.toNatClampNeg) = 2 → (∀ u_4 : TS, u_4 = tpI u 35 ((u.2 35) - 1) → (vp_in x2 21 ∧ (wt_finds (fun u_5 => k u_5) (u_4.1 5 x2.toNatClampNeg) 5 u_4)))))))))))
theorem wk_findsRecord (l : Launch) {G : TG} (hG : TD G) {k : TS → Prop} {x1 : Int32} {x2 : Int32} {u : TS} (hw : wt_findsRecord k x1 x2 u) : TMet l yX6_findsRecord cX6_findsRecord 6 (none) 6 G [.ref G.2.2.1, .int x1, .int x2] u (tV k) := by
  refine tk_met hG rfl (Nat.le_of_ble_eq_true rfl) (fun X hXl hXn hret C => ?_)
  subst hXl
  unfold wt_findsRecord at hw
  refine GK.sub (lv' := [(0, .ref G.2.2.1), (1, .int x1), (2, .int x2)]) [0, 1, 2] rfl ?_
  refine gk_aload_n (pc := 0) C.1 0 dX6_findsRecord_0 rfl rfl ?_
  refine tk_getA (pc := 1) C (k := 28) (by decide) (by decide) q2149 rfl dX6_findsRecord_1 ?_
  refine gk_aload_n (pc := 4) C.1 0 dX6_findsRecord_4 rfl rfl ?_
  refine tk_getI (pc := 5) C (k := 35) (by decide) (by decide) q2156 rfl dX6_findsRecord_5 ?_
  refine gk_iconst (pc := 8) (v := 1) C.1 dX6_findsRecord_8 (by decide) ?_
  refine gk_isub (pc := 9) C.1 dX6_findsRecord_9 ?_
  obtain ⟨hi, hw⟩ := hw
  refine tk_ald (pc := 10) C (k := 28) (by decide) hi dX6_findsRecord_10 ?_
  obtain ⟨x_1, ex_1⟩ : ∃ z : Int32, z = u.1 28 ((u.2 35) - 1).toNatClampNeg := ⟨_, rfl⟩
  rw [← ex_1]
  replace hw := hw x_1 ex_1
  refine gk_istore_n (pc := 11) (lv' := [(3, Value.int x_1), (0, Value.ref G.2.2.1), (1, Value.int x1), (2, Value.int x2)]) C.1 dX6_findsRecord_11 rfl (by rw [hXn]; decide) rfl ?_
  refine gk_iload_n (pc := 12) C.1 0 dX6_findsRecord_12 rfl rfl ?_
  refine gk_if_ne (pc := 13) (tgt := 48) C.1 dX6_findsRecord_13 (by decide) (fun c_2 => ?_) (fun c_2 => ?_)
  · replace hw := hw.1 c_2
    refine GK.sub (lv' := [(0, .ref G.2.2.1), (1, .int x1), (2, .int x2), (3, .int x_1)]) [1, 2, 3, 0] rfl ?_
    exact kt_findsRecord_48 C hG hret hXn  _ _ _ _ hw
  · replace hw := hw.2 c_2
    refine gk_aload_n (pc := 16) C.1 1 dX6_findsRecord_16 rfl rfl ?_
    refine tk_getA (pc := 17) C (k := 1) (by decide) (by decide) q2122 rfl dX6_findsRecord_17 ?_
    refine gk_iload_n (pc := 20) C.1 3 dX6_findsRecord_20 rfl rfl ?_
    obtain ⟨hi, hw⟩ := hw
    refine tk_ald (pc := 21) C (k := 1) (by decide) hi dX6_findsRecord_21 ?_
    refine gk_iconst (pc := 22) (v := 2) C.1 dX6_findsRecord_22 (by decide) ?_
    refine gk_icmp_eq (pc := 23) (tgt := 48) C.1 dX6_findsRecord_23 (by decide) (fun c_3 => ?_) (fun c_3 => ?_)
    · replace hw := hw.1 c_3
      refine GK.sub (lv' := [(0, .ref G.2.2.1), (1, .int x1), (2, .int x2), (3, .int x_1)]) [1, 2, 3, 0] rfl ?_
      exact kt_findsRecord_48 C hG hret hXn  _ _ _ _ hw
    · replace hw := hw.2 c_3
      refine gk_aload_n (pc := 26) C.1 1 dX6_findsRecord_26 rfl rfl ?_
      refine gk_dup (pc := 27) C.1 dX6_findsRecord_27 rfl ?_
      refine tk_getI (pc := 28) C (k := 35) (by decide) (by decide) q2156 rfl dX6_findsRecord_28 ?_
      refine gk_iconst (pc := 31) (v := 1) C.1 dX6_findsRecord_31 (by decide) ?_
      refine gk_isub (pc := 32) C.1 dX6_findsRecord_32 ?_
      refine tk_putI (pc := 33) C (k := 35) (by decide) (by decide) q2156 rfl rfl (ty := .int) rfl rfl rfl dX6_findsRecord_33 (fun u_4 eu_4 => ?_)
      replace hw := hw u_4 eu_4
      refine gk_aload_n (pc := 36) C.1 1 dX6_findsRecord_36 rfl rfl ?_
      refine gk_aload_n (pc := 37) C.1 1 dX6_findsRecord_37 rfl rfl ?_
      refine tk_getA (pc := 38) C (k := 5) (by decide) (by decide) q2126 rfl dX6_findsRecord_38 ?_
      refine gk_iload_n (pc := 41) C.1 3 dX6_findsRecord_41 rfl rfl ?_
      obtain ⟨hi, hw⟩ := hw
      refine tk_ald (pc := 42) C (k := 5) (by decide) hi dX6_findsRecord_42 ?_
      refine gk_iconst (pc := 43) (v := 5) C.1 dX6_findsRecord_43 (by decide) ?_
      refine tk_callV (pc := 44) (y := yX6_finds) (n := 2) (As := [.int (u_4.1 5 x2.toNatClampNeg), .int 5]) (rest := []) C (wk_finds (ev_l X) hG hw) q2477 q2479 qs102 q2480 ⟨rfl, by decide +kernel⟩ ⟨by decide, by decide⟩ rfl rfl (Nat.le_of_ble_eq_true rfl) dX6_findsRecord_44 (fun v9 u_5 hp => ?_)
      obtain ⟨rfl, hw⟩ := hp
      refine GK.at (p2 := 47) rfl ?_
      exact tk_vret (pc := 47) C hret dX6_findsRecord_47 hw
/-! looksAs(I)V -/
def wt_looksAs (k : TS → Prop) (x1 : Int32) (u : TS) : Prop := vp_in ((u.2 35) - 1) 400 ∧ (∀ u_1 : TS, u_1 = tpA u 26 ((u.2 35) - 1).toNatClampNeg x1 → (vp_in ((u_1.2 35) - 1) 400 ∧ (∀ u_2 : TS, u_2 = tpA u_1 28 ((u_1.2 35) - 1).toNatClampNeg 0 → (k u_2))))
theorem wk_looksAs (l : Launch) {G : TG} (hG : TD G) {k : TS → Prop} {x1 : Int32} {u : TS} (hw : wt_looksAs k x1 u) : TMet l yX6_looksAs cX6_looksAs 2 (none) 1 G [.ref G.2.2.1, .int x1] u (tV k) := by
  refine tk_met hG rfl (Nat.le_of_ble_eq_true rfl) (fun X hXl hXn hret C => ?_)
  subst hXl
  unfold wt_looksAs at hw
  refine GK.sub (lv' := [(0, .ref G.2.2.1), (1, .int x1)]) [0, 1] rfl ?_
  refine gk_aload_n (pc := 0) C.1 0 dX6_looksAs_0 rfl rfl ?_
  refine tk_getA (pc := 1) C (k := 26) (by decide) (by decide) q2147 rfl dX6_looksAs_1 ?_
  refine gk_aload_n (pc := 4) C.1 0 dX6_looksAs_4 rfl rfl ?_
  refine tk_getI (pc := 5) C (k := 35) (by decide) (by decide) q2156 rfl dX6_looksAs_5 ?_
  refine gk_iconst (pc := 8) (v := 1) C.1 dX6_looksAs_8 (by decide) ?_
  refine gk_isub (pc := 9) C.1 dX6_looksAs_9 ?_
  refine gk_iload_n (pc := 10) C.1 1 dX6_looksAs_10 rfl rfl ?_
  obtain ⟨hi, hw⟩ := hw
  refine tk_ast (pc := 11) C (k := 26) (by decide) hi dX6_looksAs_11 (fun u_1 eu_1 => ?_)
  replace hw := hw u_1 eu_1
  refine gk_aload_n (pc := 12) C.1 0 dX6_looksAs_12 rfl rfl ?_
  refine tk_getA (pc := 13) C (k := 28) (by decide) (by decide) q2149 rfl dX6_looksAs_13 ?_
  refine gk_aload_n (pc := 16) C.1 0 dX6_looksAs_16 rfl rfl ?_
  refine tk_getI (pc := 17) C (k := 35) (by decide) (by decide) q2156 rfl dX6_looksAs_17 ?_
  refine gk_iconst (pc := 20) (v := 1) C.1 dX6_looksAs_20 (by decide) ?_
  refine gk_isub (pc := 21) C.1 dX6_looksAs_21 ?_
  refine gk_iconst (pc := 22) (v := 0) C.1 dX6_looksAs_22 (by decide) ?_
  obtain ⟨hi, hw⟩ := hw
  refine tk_ast (pc := 23) C (k := 28) (by decide) hi dX6_looksAs_23 (fun u_2 eu_2 => ?_)
  replace hw := hw u_2 eu_2
  exact tk_vret (pc := 24) C hret dX6_looksAs_24 hw
