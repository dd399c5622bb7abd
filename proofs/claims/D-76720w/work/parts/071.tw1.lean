set_option maxRecDepth 100000
/-! unitFor(II)I -/
def wt_unitFor_4 (k : Int32 → TS → Prop) : Nat → Int32 → Int32 → Int32 → TS → Prop
  | 0 => fun _ _ _ _ => False
  | n + 1 => fun x1 x2 x3 u => ((x3 = x1 → (k x2 u)) ∧ (¬ x3 = x1 → (∀ x_2 : Int32, x_2 = x2 * 10 → (∀ x_3 : Int32, x_3 = x3 / 10 → (wt_unitFor_4 k n x1 x_2 x_3 u)))))
theorem kt_unitFor_4 {X : Ev} {G : TG} {k : Int32 → TS → Prop} (C : TC X G cX6_unitFor 1) (hG : TD G) (hret : (ev_h X).sig.returnType = some .int) (hXn : ev_n X = 4) : ∀ (n : Nat) (x1 : Int32) (x2 : Int32) (x3 : Int32) (u : TS), wt_unitFor_4 k n x1 x2 x3 u → GK X (TP G u) 0 0 (tQ X G (tI k)) 4 [(1, .int x1), (2, .int x2), (3, .int x3)] [] := by
  intro n
  induction n with
  | zero => intro x1 x2 x3 u hw; exact hw.elim
  | succ n ih =>
  intro x1 x2 x3 u hw
  unfold wt_unitFor_4 at hw
  refine gk_iload_n (pc := 4) C.1 2 dX6_unitFor_4 rfl rfl ?_
  refine gk_iload_n (pc := 5) C.1 0 dX6_unitFor_5 rfl rfl ?_
  refine gk_icmp_eq (pc := 6) (tgt := 22) C.1 dX6_unitFor_6 (by decide) (fun c_1 => ?_) (fun c_1 => ?_)
  · replace hw := hw.1 c_1
    refine gk_iload_n (pc := 22) C.1 1 dX6_unitFor_22 rfl rfl ?_
    exact tk_iret (pc := 23) C hret dX6_unitFor_23 hw
  · replace hw := hw.2 c_1
    refine gk_iload_n (pc := 9) C.1 1 dX6_unitFor_9 rfl rfl ?_
    refine gk_bipush (pc := 10) (v := 10) C.1 dX6_unitFor_10 (by decide) ?_
    refine gk_imul (pc := 12) C.1 dX6_unitFor_12 ?_
    obtain ⟨x_2, ex_2⟩ : ∃ z : Int32, z = x2 * 10 := ⟨_, rfl⟩
    rw [← ex_2]
    replace hw := hw x_2 ex_2
    refine gk_istore_n (pc := 13) (lv' := [(2, Value.int x_2), (1, Value.int x1), (3, Value.int x3)]) C.1 dX6_unitFor_13 rfl (by rw [hXn]; decide) rfl ?_
    refine gk_iload_n (pc := 14) C.1 2 dX6_unitFor_14 rfl rfl ?_
    refine gk_bipush (pc := 15) (v := 10) C.1 dX6_unitFor_15 (by decide) ?_
    refine gk_idiv (pc := 17) C.1 dX6_unitFor_17 (by decide) ?_
    obtain ⟨x_3, ex_3⟩ : ∃ z : Int32, z = x3 / 10 := ⟨_, rfl⟩
    rw [← ex_3]
    replace hw := hw x_3 ex_3
    refine gk_istore_n (pc := 18) (lv' := [(3, Value.int x_3), (2, Value.int x_2), (1, Value.int x1)]) C.1 dX6_unitFor_18 rfl (by rw [hXn]; decide) rfl ?_
    refine gk_goto (pc := 19) (tgt := 4) C.1 dX6_unitFor_19 (by decide) ?_
    refine GK.sub (lv' := [(1, .int x1), (2, .int x_2), (3, .int x_3)]) [2, 1, 0] rfl ?_
    exact ih _ _ _ _ hw
def wt_unitFor (k : Int32 → TS → Prop) (x0 : Int32) (x1 : Int32) (u : TS) : Prop := ∃ fu : Nat, wt_unitFor_4 k fu x1 1 x0 u
theorem wk_unitFor (l : Launch) {G : TG} (hG : TD G) {k : Int32 → TS → Prop} {x0 : Int32} {x1 : Int32} {u : TS} (hw : wt_unitFor k x0 x1 u) : TMet l yX6_unitFor cX6_unitFor 4 (some .int) 1 G [.int x0, .int x1] u (tI k) := by
  refine tk_met hG rfl (Nat.le_of_ble_eq_true rfl) (fun X hXl hXn hret C => ?_)
  subst hXl
  unfold wt_unitFor at hw
  refine GK.sub (lv' := [(0, .int x0), (1, .int x1)]) [0, 1] rfl ?_
  refine gk_iconst (pc := 0) (v := 1) C.1 dX6_unitFor_0 (by decide) ?_
  refine gk_istore_n (pc := 1) (lv' := [(2, Value.int 1), (0, Value.int x0), (1, Value.int x1)]) C.1 dX6_unitFor_1 rfl (by rw [hXn]; decide) rfl ?_
  refine gk_iload_n (pc := 2) C.1 1 dX6_unitFor_2 rfl rfl ?_
  refine gk_istore_n (pc := 3) (lv' := [(3, Value.int x0), (2, Value.int 1), (0, Value.int x0), (1, Value.int x1)]) C.1 dX6_unitFor_3 rfl (by rw [hXn]; decide) rfl ?_
  refine GK.sub (lv' := [(1, .int x1), (2, .int 1), (3, .int x0)]) [3, 1, 0] rfl ?_
  obtain ⟨n9, hw⟩ := hw
  exact kt_unitFor_4 C hG hret hXn  n9 _ _ _ _ hw
/-! hasAlike(III)Z -/
def wt_hasAlike_103 (k : Int32 → TS → Prop) (J27 : Int32 → Int32 → Int32 → Int32 → TS → Prop) (x1 : Int32) (x3 : Int32) (x4 : Int32) (x5 : Int32) (u : TS) : Prop := ∀ x_1 : Int32, x_1 = x5 + 1 → (J27 x1 x3 x4 x_1 u)
theorem kt_hasAlike_103 {X : Ev} {G : TG} {k : Int32 → TS → Prop} {J27 : Int32 → Int32 → Int32 → Int32 → TS → Prop} (C : TC X G cX6_hasAlike 2) (hG : TD G) (hret : (ev_h X).sig.returnType = some .boolean) (hXn : ev_n X = 6) (hJ27 : ∀ (x1 : Int32) (x3 : Int32) (x4 : Int32) (x5 : Int32) (u : TS), J27 x1 x3 x4 x5 u → GK X (TP G u) 0 0 (tQ X G (tI k)) 27 [(0, .ref G.2.2.1), (1, .int x1), (3, .int x3), (4, .int x4), (5, .int x5)] []) : ∀ (x1 : Int32) (x3 : Int32) (x4 : Int32) (x5 : Int32) (u : TS), wt_hasAlike_103 k J27 x1 x3 x4 x5 u → GK X (TP G u) 0 0 (tQ X G (tI k)) 103 [(0, .ref G.2.2.1), (1, .int x1), (3, .int x3), (4, .int x4), (5, .int x5)] [] := by
  intro x1 x3 x4 x5 u hw
  unfold wt_hasAlike_103 at hw
  obtain ⟨x_1, ex_1⟩ : ∃ z : Int32, z = x5 + 1 := ⟨_, rfl⟩
  replace hw := hw x_1 ex_1
  refine gk_iinc (pc := 103) (v := x_1) (lv' := [(5, Value.int x_1), (0, Value.ref G.2.2.1), (1, Value.int x1), (3, Value.int x3), (4, Value.int x4)]) C.1 4 dX6_hasAlike_103 rfl (by rw [ex_1]; rfl) (by rw [hXn]; decide) rfl ?_
  refine gk_goto (pc := 106) (tgt := 27) C.1 dX6_hasAlike_106 (by decide) ?_
  refine GK.sub (lv' := [(0, .ref G.2.2.1), (1, .int x1), (3, .int x3), (4, .int x4), (5, .int x_1)]) [1, 2, 3, 4, 0] rfl ?_
  exact hJ27 _ _ _ _ _ hw
def wt_hasAlike_27 (k : Int32 → TS → Prop) : Nat → Int32 → Int32 → Int32 → Int32 → TS → Prop
  | 0 => fun _ _ _ _ _ => False
  | n + 1 => fun x1 x3 x4 x5 u => vp_in x3 21 ∧ ((((x3 + (u.1 4 x3.toNatClampNeg)) ≤ x5 → (k 0 u)) ∧ (¬ (x3 + (u.1 4 x3.toNatClampNeg)) ≤ x5 → (vp_in x5 21 ∧ (vp_in x5 21 ∧ (vp_in x3 21 ∧ (wt_unitFor (fun r_3 u_2 => ¬ r_3 = 0 ∧ (((¬ ((u.1 5 x5.toNatClampNeg) - (u.1 5 x5.toNatClampNeg) / r_3 * r_3) = x4 → (wt_hasAlike_103 k (fun yx1 yx3 yx4 yx5 yu => wt_hasAlike_27 k n yx1 yx3 yx4 yx5 yu) x1 x3 x4 x5 u_2)) ∧ (((u.1 5 x5.toNatClampNeg) - (u.1 5 x5.toNatClampNeg) / r_3 * r_3) = x4 → (vp_in x5 21 ∧ (vp_in x1 21 ∧ (((¬ (u_2.1 1 x5.toNatClampNeg) = (u_2.1 1 x1.toNatClampNeg) → (wt_hasAlike_103 k (fun yx1 yx3 yx4 yx5 yu => wt_hasAlike_27 k n yx1 yx3 yx4 yx5 yu) x1 x3 x4 x5 u_2)) ∧ ((u_2.1 1 x5.toNatClampNeg) = (u_2.1 1 x1.toNatClampNeg) → (vp_in x5 21 ∧ (vp_in x1 21 ∧ (((¬ (u_2.1 2 x5.toNatClampNeg) = (u_2.1 2 x1.toNatClampNeg) → (wt_hasAlike_103 k (fun yx1 yx3 yx4 yx5 yu => wt_hasAlike_27 k n yx1 yx3 yx4 yx5 yu) x1 x3 x4 x5 u_2)) ∧ ((u_2.1 2 x5.toNatClampNeg) = (u_2.1 2 x1.toNatClampNeg) → (k 1 u_2))))))))))))))) (u.1 5 x5.toNatClampNeg) (u.1 5 x3.toNatClampNeg) u)))))))
theorem kt_hasAlike_27 {X : Ev} {G : TG} {k : Int32 → TS → Prop} (C : TC X G cX6_hasAlike 2) (hG : TD G) (hret : (ev_h X).sig.returnType = some .boolean) (hXn : ev_n X = 6) : ∀ (n : Nat) (x1 : Int32) (x3 : Int32) (x4 : Int32) (x5 : Int32) (u : TS), wt_hasAlike_27 k n x1 x3 x4 x5 u → GK X (TP G u) 0 0 (tQ X G (tI k)) 27 [(0, .ref G.2.2.1), (1, .int x1), (3, .int x3), (4, .int x4), (5, .int x5)] [] := by
  intro n
  induction n with
  | zero => intro x1 x3 x4 x5 u hw; exact hw.elim
  | succ n ih =>
  intro x1 x3 x4 x5 u hw
  unfold wt_hasAlike_27 at hw
  refine gk_iload (pc := 27) C.1 4 dX6_hasAlike_27 rfl ?_
  refine gk_iload_n (pc := 29) C.1 2 dX6_hasAlike_29 rfl rfl ?_
  refine gk_aload_n (pc := 30) C.1 0 dX6_hasAlike_30 rfl rfl ?_
  refine tk_getA (pc := 31) C (k := 4) (by decide) (by decide) q2125 rfl dX6_hasAlike_31 ?_
  refine gk_iload_n (pc := 34) C.1 2 dX6_hasAlike_34 rfl rfl ?_
  obtain ⟨hi, hw⟩ := hw
  refine tk_ald (pc := 35) C (k := 4) (by decide) hi dX6_hasAlike_35 ?_
  refine gk_iadd (pc := 36) C.1 dX6_hasAlike_36 ?_
  refine gk_icmp_ge (pc := 37) (tgt := 109) C.1 dX6_hasAlike_37 (by decide) (fun c_1 => ?_) (fun c_1 => ?_)
  · replace hw := hw.1 c_1
    refine gk_iconst (pc := 109) (v := 0) C.1 dX6_hasAlike_109 (by decide) ?_
    exact tk_zret (pc := 110) C hret dX6_hasAlike_110 bz0 hw
  · replace hw := hw.2 c_1
    refine gk_aload_n (pc := 40) C.1 0 dX6_hasAlike_40 rfl rfl ?_
    refine tk_getA (pc := 41) C (k := 5) (by decide) (by decide) q2126 rfl dX6_hasAlike_41 ?_
    refine gk_iload (pc := 44) C.1 4 dX6_hasAlike_44 rfl ?_
    obtain ⟨hi, hw⟩ := hw
    refine tk_ald (pc := 46) C (k := 5) (by decide) hi dX6_hasAlike_46 ?_
    refine gk_aload_n (pc := 47) C.1 0 dX6_hasAlike_47 rfl rfl ?_
    refine tk_getA (pc := 48) C (k := 5) (by decide) (by decide) q2126 rfl dX6_hasAlike_48 ?_
    refine gk_iload (pc := 51) C.1 4 dX6_hasAlike_51 rfl ?_
    obtain ⟨hi, hw⟩ := hw
    refine tk_ald (pc := 53) C (k := 5) (by decide) hi dX6_hasAlike_53 ?_
    refine gk_aload_n (pc := 54) C.1 0 dX6_hasAlike_54 rfl rfl ?_
    refine tk_getA (pc := 55) C (k := 5) (by decide) (by decide) q2126 rfl dX6_hasAlike_55 ?_
    refine gk_iload_n (pc := 58) C.1 2 dX6_hasAlike_58 rfl rfl ?_
    obtain ⟨hi, hw⟩ := hw
    refine tk_ald (pc := 59) C (k := 5) (by decide) hi dX6_hasAlike_59 ?_
    refine tk_callS (pc := 60) (y := yX6_unitFor) (n := 2) (As := [.int (u.1 5 x5.toNatClampNeg), .int (u.1 5 x3.toNatClampNeg)]) (rest := [.int (u.1 5 x5.toNatClampNeg)]) C (wk_unitFor (ev_l X) hG hw) q2540 q2541 q2542 ⟨rfl, by decide +kernel⟩ ⟨by decide, by decide⟩ rfl rfl (Nat.le_of_ble_eq_true rfl) dX6_hasAlike_60 (fun v9 u_2 hp => ?_)
    obtain ⟨r_3, rfl, hw⟩ := hp
    refine GK.at (p2 := 63) rfl ?_
    obtain ⟨hne, hw⟩ := hw
    refine gk_irem (pc := 63) C.1 dX6_hasAlike_63 hne ?_
    refine gk_iload (pc := 64) C.1 3 dX6_hasAlike_64 rfl ?_
    refine gk_icmp_ne (pc := 66) (tgt := 103) C.1 dX6_hasAlike_66 (by decide) (fun c_4 => ?_) (fun c_4 => ?_)
    · replace hw := hw.1 c_4
      refine GK.sub (lv' := [(0, .ref G.2.2.1), (1, .int x1), (3, .int x3), (4, .int x4), (5, .int x5)]) [0, 1, 2, 3, 4] rfl ?_
      exact kt_hasAlike_103 C hG hret hXn ih _ _ _ _ _ hw
    · replace hw := hw.2 c_4
      refine gk_aload_n (pc := 69) C.1 0 dX6_hasAlike_69 rfl rfl ?_
      refine tk_getA (pc := 70) C (k := 1) (by decide) (by decide) q2122 rfl dX6_hasAlike_70 ?_
      refine gk_iload (pc := 73) C.1 4 dX6_hasAlike_73 rfl ?_
      obtain ⟨hi, hw⟩ := hw
      refine tk_ald (pc := 75) C (k := 1) (by decide) hi dX6_hasAlike_75 ?_
      refine gk_aload_n (pc := 76) C.1 0 dX6_hasAlike_76 rfl rfl ?_
      refine tk_getA (pc := 77) C (k := 1) (by decide) (by decide) q2122 rfl dX6_hasAlike_77 ?_
      refine gk_iload_n (pc := 80) C.1 1 dX6_hasAlike_80 rfl rfl ?_
      obtain ⟨hi, hw⟩ := hw
      refine tk_ald (pc := 81) C (k := 1) (by decide) hi dX6_hasAlike_81 ?_
      refine gk_icmp_ne (pc := 82) (tgt := 103) C.1 dX6_hasAlike_82 (by decide) (fun c_5 => ?_) (fun c_5 => ?_)
      · replace hw := hw.1 c_5
        refine GK.sub (lv' := [(0, .ref G.2.2.1), (1, .int x1), (3, .int x3), (4, .int x4), (5, .int x5)]) [0, 1, 2, 3, 4] rfl ?_
        exact kt_hasAlike_103 C hG hret hXn ih _ _ _ _ _ hw
      · replace hw := hw.2 c_5
        refine gk_aload_n (pc := 85) C.1 0 dX6_hasAlike_85 rfl rfl ?_
        refine tk_getA (pc := 86) C (k := 2) (by decide) (by decide) q2123 rfl dX6_hasAlike_86 ?_
        refine gk_iload (pc := 89) C.1 4 dX6_hasAlike_89 rfl ?_
        obtain ⟨hi, hw⟩ := hw
        refine tk_ald (pc := 91) C (k := 2) (by decide) hi dX6_hasAlike_91 ?_
        refine gk_aload_n (pc := 92) C.1 0 dX6_hasAlike_92 rfl rfl ?_
        refine tk_getA (pc := 93) C (k := 2) (by decide) (by decide) q2123 rfl dX6_hasAlike_93 ?_
        refine gk_iload_n (pc := 96) C.1 1 dX6_hasAlike_96 rfl rfl ?_
        obtain ⟨hi, hw⟩ := hw
        refine tk_ald (pc := 97) C (k := 2) (by decide) hi dX6_hasAlike_97 ?_
        refine gk_icmp_ne (pc := 98) (tgt := 103) C.1 dX6_hasAlike_98 (by decide) (fun c_6 => ?_) (fun c_6 => ?_)
        · replace hw := hw.1 c_6
          refine GK.sub (lv' := [(0, .ref G.2.2.1), (1, .int x1), (3, .int x3), (4, .int x4), (5, .int x5)]) [0, 1, 2, 3, 4] rfl ?_
          exact kt_hasAlike_103 C hG hret hXn ih _ _ _ _ _ hw
        · replace hw := hw.2 c_6
          refine gk_iconst (pc := 101) (v := 1) C.1 dX6_hasAlike_101 (by decide) ?_
          exact tk_zret (pc := 102) C hret dX6_hasAlike_102 bz1 hw
def wt_hasAlike (k : Int32 → TS → Prop) (x1 : Int32) (x2 : Int32) (x3 : Int32) (u : TS) : Prop := vp_in x1 21 ∧ (vp_in x1 21 ∧ (vp_in x2 21 ∧ (wt_unitFor (fun r_2 u_1 => ¬ r_2 = 0 ∧ (∀ x_3 : Int32, x_3 = (u.1 5 x1.toNatClampNeg) - (u.1 5 x1.toNatClampNeg) / r_2 * r_2 → (∃ fu : Nat, wt_hasAlike_27 k fu x1 x3 x_3 x3 u_1))) (u.1 5 x1.toNatClampNeg) (u.1 5 x2.toNatClampNeg) u)))
theorem wk_hasAlike (l : Launch) {G : TG} (hG : TD G) {k : Int32 → TS → Prop} {x1 : Int32} {x2 : Int32} {x3 : Int32} {u : TS} (hw : wt_hasAlike k x1 x2 x3 u) : TMet l yX6_hasAlike cX6_hasAlike 6 (some .boolean) 2 G [.ref G.2.2.1, .int x1, .int x2, .int x3] u (tI k) := by
  refine tk_met hG rfl (Nat.le_of_ble_eq_true rfl) (fun X hXl hXn hret C => ?_)
  subst hXl
  unfold wt_hasAlike at hw
  refine GK.sub (lv' := [(0, .ref G.2.2.1), (1, .int x1), (2, .int x2), (3, .int x3)]) [0, 1, 2, 3] rfl ?_
  refine gk_aload_n (pc := 0) C.1 0 dX6_hasAlike_0 rfl rfl ?_
  refine tk_getA (pc := 1) C (k := 5) (by decide) (by decide) q2126 rfl dX6_hasAlike_1 ?_
  refine gk_iload_n (pc := 4) C.1 1 dX6_hasAlike_4 rfl rfl ?_
  obtain ⟨hi, hw⟩ := hw
  refine tk_ald (pc := 5) C (k := 5) (by decide) hi dX6_hasAlike_5 ?_
  refine gk_aload_n (pc := 6) C.1 0 dX6_hasAlike_6 rfl rfl ?_
  refine tk_getA (pc := 7) C (k := 5) (by decide) (by decide) q2126 rfl dX6_hasAlike_7 ?_
  refine gk_iload_n (pc := 10) C.1 1 dX6_hasAlike_10 rfl rfl ?_
  obtain ⟨hi, hw⟩ := hw
  refine tk_ald (pc := 11) C (k := 5) (by decide) hi dX6_hasAlike_11 ?_
  refine gk_aload_n (pc := 12) C.1 0 dX6_hasAlike_12 rfl rfl ?_
  refine tk_getA (pc := 13) C (k := 5) (by decide) (by decide) q2126 rfl dX6_hasAlike_13 ?_
  refine gk_iload_n (pc := 16) C.1 2 dX6_hasAlike_16 rfl rfl ?_
  obtain ⟨hi, hw⟩ := hw
  refine tk_ald (pc := 17) C (k := 5) (by decide) hi dX6_hasAlike_17 ?_
  refine tk_callS (pc := 18) (y := yX6_unitFor) (n := 2) (As := [.int (u.1 5 x1.toNatClampNeg), .int (u.1 5 x2.toNatClampNeg)]) (rest := [.int (u.1 5 x1.toNatClampNeg)]) C (wk_unitFor (ev_l X) hG hw) q2540 q2541 q2542 ⟨rfl, by decide +kernel⟩ ⟨by decide, by decide⟩ rfl rfl (Nat.le_of_ble_eq_true rfl) dX6_hasAlike_18 (fun v9 u_1 hp => ?_)
  obtain ⟨r_2, rfl, hw⟩ := hp
  refine GK.at (p2 := 21) rfl ?_
  obtain ⟨hne, hw⟩ := hw
  refine gk_irem (pc := 21) C.1 dX6_hasAlike_21 hne ?_
  obtain ⟨x_3, ex_3⟩ : ∃ z : Int32, z = (u.1 5 x1.toNatClampNeg) - (u.1 5 x1.toNatClampNeg) / r_2 * r_2 := ⟨_, rfl⟩
  rw [← ex_3]
  replace hw := hw x_3 ex_3
  refine gk_istore (pc := 22) (lv' := [(4, Value.int x_3), (0, Value.ref G.2.2.1), (1, Value.int x1), (2, Value.int x2), (3, Value.int x3)]) C.1 dX6_hasAlike_22 (by rw [hXn]; decide) rfl ?_
  refine gk_iload_n (pc := 24) C.1 4 dX6_hasAlike_24 rfl rfl ?_
  refine gk_istore (pc := 25) (lv' := [(5, Value.int x3), (4, Value.int x_3), (0, Value.ref G.2.2.1), (1, Value.int x1), (2, Value.int x2), (3, Value.int x3)]) C.1 dX6_hasAlike_25 (by rw [hXn]; decide) rfl ?_
  refine GK.sub (lv' := [(0, .ref G.2.2.1), (1, .int x1), (3, .int x3), (4, .int x_3), (5, .int x3)]) [2, 3, 5, 1, 0] rfl ?_
  obtain ⟨n9, hw⟩ := hw
  exact kt_hasAlike_27 C hG hret hXn  n9 _ _ _ _ _ hw
/-! areSame(II)Z -/
def wt_areSame_19 (k : Int32 → TS → Prop) : Nat → Int32 → Int32 → Int32 → TS → Prop
  | 0 => fun _ _ _ _ => False
  | n + 1 => fun x1 x2 x3 u => vp_in x1 21 ∧ ((((x1 + (u.1 4 x1.toNatClampNeg)) ≤ x3 → (k 1 u)) ∧ (¬ (x1 + (u.1 4 x1.toNatClampNeg)) ≤ x3 → (wt_hasAlike (fun r_3 u_2 => ((¬ r_3 = 0 → (∀ x_5 : Int32, x_5 = x3 + 1 → (wt_areSame_19 k n x1 x2 x_5 u_2))) ∧ (r_3 = 0 → (k 0 u_2)))) x3 x1 x2 u))))
theorem kt_areSame_19 {X : Ev} {G : TG} {k : Int32 → TS → Prop} (C : TC X G cX6_areSame 3) (hG : TD G) (hret : (ev_h X).sig.returnType = some .boolean) (hXn : ev_n X = 4) : ∀ (n : Nat) (x1 : Int32) (x2 : Int32) (x3 : Int32) (u : TS), wt_areSame_19 k n x1 x2 x3 u → GK X (TP G u) 0 0 (tQ X G (tI k)) 19 [(0, .ref G.2.2.1), (1, .int x1), (2, .int x2), (3, .int x3)] [] := by
  intro n
  induction n with
  | zero => intro x1 x2 x3 u hw; exact hw.elim
  | succ n ih =>
  intro x1 x2 x3 u hw
  unfold wt_areSame_19 at hw
  refine gk_iload_n (pc := 19) C.1 3 dX6_areSame_19 rfl rfl ?_
  refine gk_iload_n (pc := 20) C.1 1 dX6_areSame_20 rfl rfl ?_
  refine gk_aload_n (pc := 21) C.1 0 dX6_areSame_21 rfl rfl ?_
  refine tk_getA (pc := 22) C (k := 4) (by decide) (by decide) q2125 rfl dX6_areSame_22 ?_
  refine gk_iload_n (pc := 25) C.1 1 dX6_areSame_25 rfl rfl ?_
  obtain ⟨hi, hw⟩ := hw
  refine tk_ald (pc := 26) C (k := 4) (by decide) hi dX6_areSame_26 ?_
  refine gk_iadd (pc := 27) C.1 dX6_areSame_27 ?_
  refine gk_icmp_ge (pc := 28) (tgt := 49) C.1 dX6_areSame_28 (by decide) (fun c_1 => ?_) (fun c_1 => ?_)
  · replace hw := hw.1 c_1
    refine gk_iconst (pc := 49) (v := 1) C.1 dX6_areSame_49 (by decide) ?_
    exact tk_zret (pc := 50) C hret dX6_areSame_50 bz1 hw
  · replace hw := hw.2 c_1
    refine gk_aload_n (pc := 31) C.1 0 dX6_areSame_31 rfl rfl ?_
    refine gk_iload_n (pc := 32) C.1 3 dX6_areSame_32 rfl rfl ?_
    refine gk_iload_n (pc := 33) C.1 1 dX6_areSame_33 rfl rfl ?_
    refine gk_iload_n (pc := 34) C.1 2 dX6_areSame_34 rfl rfl ?_
    refine tk_callV (pc := 35) (y := yX6_hasAlike) (n := 3) (As := [.int x3, .int x1, .int x2]) (rest := []) C (wk_hasAlike (ev_l X) hG hw) q2536 q2538 qs116 q2539 ⟨rfl, by decide +kernel⟩ ⟨by decide, by decide⟩ rfl rfl (Nat.le_of_ble_eq_true rfl) dX6_areSame_35 (fun v9 u_2 hp => ?_)
    obtain ⟨r_3, rfl, hw⟩ := hp
    refine GK.at (p2 := 38) rfl ?_
    refine gk_if_ne (pc := 38) (tgt := 43) C.1 dX6_areSame_38 (by decide) (fun c_4 => ?_) (fun c_4 => ?_)
    · replace hw := hw.1 c_4
      obtain ⟨x_5, ex_5⟩ : ∃ z : Int32, z = x3 + 1 := ⟨_, rfl⟩
      replace hw := hw x_5 ex_5
      refine gk_iinc (pc := 43) (v := x_5) (lv' := [(3, Value.int x_5), (0, Value.ref G.2.2.1), (1, Value.int x1), (2, Value.int x2)]) C.1 3 dX6_areSame_43 rfl (by rw [ex_5]; rfl) (by rw [hXn]; decide) rfl ?_
      refine gk_goto (pc := 46) (tgt := 19) C.1 dX6_areSame_46 (by decide) ?_
      refine GK.sub (lv' := [(0, .ref G.2.2.1), (1, .int x1), (2, .int x2), (3, .int x_5)]) [1, 2, 3, 0] rfl ?_
      exact ih _ _ _ _ hw
    · replace hw := hw.2 c_4
      refine gk_iconst (pc := 41) (v := 0) C.1 dX6_areSame_41 (by decide) ?_
      exact tk_zret (pc := 42) C hret dX6_areSame_42 bz0 hw
def wt_areSame (k : Int32 → TS → Prop) (x1 : Int32) (x2 : Int32) (u : TS) : Prop := vp_in x1 21 ∧ (vp_in x2 21 ∧ ((((u.1 4 x1.toNatClampNeg) = (u.1 4 x2.toNatClampNeg) → (∃ fu : Nat, wt_areSame_19 k fu x1 x2 x1 u)) ∧ (¬ (u.1 4 x1.toNatClampNeg) = (u.1 4 x2.toNatClampNeg) → (k 0 u)))))
theorem wk_areSame (l : Launch) {G : TG} (hG : TD G) {k : Int32 → TS → Prop} {x1 : Int32} {x2 : Int32} {u : TS} (hw : wt_areSame k x1 x2 u) : TMet l yX6_areSame cX6_areSame 4 (some .boolean) 3 G [.ref G.2.2.1, .int x1, .int x2] u (tI k) := by
  refine tk_met hG rfl (Nat.le_of_ble_eq_true rfl) (fun X hXl hXn hret C => ?_)
  subst hXl
  unfold wt_areSame at hw
  refine GK.sub (lv' := [(0, .ref G.2.2.1), (1, .int x1), (2, .int x2)]) [0, 1, 2] rfl ?_
  refine gk_aload_n (pc := 0) C.1 0 dX6_areSame_0 rfl rfl ?_
  refine tk_getA (pc := 1) C (k := 4) (by decide) (by decide) q2125 rfl dX6_areSame_1 ?_
  refine gk_iload_n (pc := 4) C.1 1 dX6_areSame_4 rfl rfl ?_
  obtain ⟨hi, hw⟩ := hw
  refine tk_ald (pc := 5) C (k := 4) (by decide) hi dX6_areSame_5 ?_
  refine gk_aload_n (pc := 6) C.1 0 dX6_areSame_6 rfl rfl ?_
  refine tk_getA (pc := 7) C (k := 4) (by decide) (by decide) q2125 rfl dX6_areSame_7 ?_
  refine gk_iload_n (pc := 10) C.1 2 dX6_areSame_10 rfl rfl ?_
  obtain ⟨hi, hw⟩ := hw
  refine tk_ald (pc := 11) C (k := 4) (by decide) hi dX6_areSame_11 ?_
  refine gk_icmp_eq (pc := 12) (tgt := 17) C.1 dX6_areSame_12 (by decide) (fun c_1 => ?_) (fun c_1 => ?_)
  · replace hw := hw.1 c_1
    refine gk_iload_n (pc := 17) C.1 1 dX6_areSame_17 rfl rfl ?_
    refine gk_istore_n (pc := 18) (lv' := [(3, Value.int x1), (0, Value.ref G.2.2.1), (1, Value.int x1), (2, Value.int x2)]) C.1 dX6_areSame_18 rfl (by rw [hXn]; decide) rfl ?_
    refine GK.sub (lv' := [(0, .ref G.2.2.1), (1, .int x1), (2, .int x2), (3, .int x1)]) [1, 2, 3, 0] rfl ?_
    obtain ⟨n9, hw⟩ := hw
    exact kt_areSame_19 C hG hret hXn  n9 _ _ _ _ hw
  · replace hw := hw.2 c_1
    refine gk_iconst (pc := 15) (v := 0) C.1 dX6_areSame_15 (by decide) ?_
    exact tk_zret (pc := 16) C hret dX6_areSame_16 bz0 hw
/-! alike(II)I -/
def wt_alike_30 (k : Int32 → TS → Prop) (J5 : Int32 → Int32 → Int32 → TS → Prop) (x1 : Int32) (x4 : Int32) (s0 : Int32) (s1 : Int32) (u : TS) : Prop := ∀ x_1 : Int32, x_1 = s0 + s1 → (∀ x_2 : Int32, x_2 = x4 + 1 → (J5 x1 x_1 x_2 u))
theorem kt_alike_30 {X : Ev} {G : TG} {k : Int32 → TS → Prop} {J5 : Int32 → Int32 → Int32 → TS → Prop} (C : TC X G cX6_alike 4) (hG : TD G) (hret : (ev_h X).sig.returnType = some .int) (hXn : ev_n X = 5) (hJ5 : ∀ (x1 : Int32) (x3 : Int32) (x4 : Int32) (u : TS), J5 x1 x3 x4 u → GK X (TP G u) 0 0 (tQ X G (tI k)) 5 [(0, .ref G.2.2.1), (1, .int x1), (3, .int x3), (4, .int x4)] []) : ∀ (x1 : Int32) (x4 : Int32) (s0 : Int32) (s1 : Int32) (u : TS), wt_alike_30 k J5 x1 x4 s0 s1 u → GK X (TP G u) 0 0 (tQ X G (tI k)) 30 [(0, .ref G.2.2.1), (1, .int x1), (4, .int x4)] [.int s1, .int s0] := by
  intro x1 x4 s0 s1 u hw
  unfold wt_alike_30 at hw
  refine gk_iadd (pc := 30) C.1 dX6_alike_30 ?_
  obtain ⟨x_1, ex_1⟩ : ∃ z : Int32, z = s0 + s1 := ⟨_, rfl⟩
  rw [← ex_1]
  replace hw := hw x_1 ex_1
  refine gk_istore_n (pc := 31) (lv' := [(3, Value.int x_1), (0, Value.ref G.2.2.1), (1, Value.int x1), (4, Value.int x4)]) C.1 dX6_alike_31 rfl (by rw [hXn]; decide) rfl ?_
  obtain ⟨x_2, ex_2⟩ : ∃ z : Int32, z = x4 + 1 := ⟨_, rfl⟩
  replace hw := hw x_2 ex_2
  refine gk_iinc (pc := 32) (v := x_2) (lv' := [(4, Value.int x_2), (3, Value.int x_1), (0, Value.ref G.2.2.1), (1, Value.int x1)]) C.1 3 dX6_alike_32 rfl (by rw [ex_2]; rfl) (by rw [hXn]; decide) rfl ?_
  refine gk_goto (pc := 35) (tgt := 5) C.1 dX6_alike_35 (by decide) ?_
  refine GK.sub (lv' := [(0, .ref G.2.2.1), (1, .int x1), (3, .int x_1), (4, .int x_2)]) [2, 3, 1, 0] rfl ?_
  exact hJ5 _ _ _ _ hw
def wt_alike_5 (k : Int32 → TS → Prop) : Nat → Int32 → Int32 → Int32 → TS → Prop
  | 0 => fun _ _ _ _ => False
  | n + 1 => fun x1 x3 x4 u => (((u.2 6) ≤ x4 → (k x3 u)) ∧ (¬ (u.2 6) ≤ x4 → (wt_areSame (fun r_3 u_2 => ((r_3 = 0 → (wt_alike_30 k (fun yx1 yx3 yx4 yu => wt_alike_5 k n yx1 yx3 yx4 yu) x1 x4 x3 0 u_2)) ∧ (¬ r_3 = 0 → (wt_alike_30 k (fun yx1 yx3 yx4 yu => wt_alike_5 k n yx1 yx3 yx4 yu) x1 x4 x3 1 u_2)))) x1 x4 u)))
theorem kt_alike_5 {X : Ev} {G : TG} {k : Int32 → TS → Prop} (C : TC X G cX6_alike 4) (hG : TD G) (hret : (ev_h X).sig.returnType = some .int) (hXn : ev_n X = 5) : ∀ (n : Nat) (x1 : Int32) (x3 : Int32) (x4 : Int32) (u : TS), wt_alike_5 k n x1 x3 x4 u → GK X (TP G u) 0 0 (tQ X G (tI k)) 5 [(0, .ref G.2.2.1), (1, .int x1), (3, .int x3), (4, .int x4)] [] := by
  intro n
  induction n with
  | zero => intro x1 x3 x4 u hw; exact hw.elim
  | succ n ih =>
  intro x1 x3 x4 u hw
  unfold wt_alike_5 at hw
  refine gk_iload (pc := 5) C.1 3 dX6_alike_5 rfl ?_
  refine gk_aload_n (pc := 7) C.1 0 dX6_alike_7 rfl rfl ?_
  refine tk_getI (pc := 8) C (k := 6) (by decide) (by decide) q2127 rfl dX6_alike_8 ?_
  refine gk_icmp_ge (pc := 11) (tgt := 38) C.1 dX6_alike_11 (by decide) (fun c_1 => ?_) (fun c_1 => ?_)
  · replace hw := hw.1 c_1
    refine gk_iload_n (pc := 38) C.1 2 dX6_alike_38 rfl rfl ?_
    exact tk_iret (pc := 39) C hret dX6_alike_39 hw
  · replace hw := hw.2 c_1
    refine gk_iload_n (pc := 14) C.1 2 dX6_alike_14 rfl rfl ?_
    refine gk_aload_n (pc := 15) C.1 0 dX6_alike_15 rfl rfl ?_
    refine gk_iload_n (pc := 16) C.1 1 dX6_alike_16 rfl rfl ?_
    refine gk_iload (pc := 17) C.1 3 dX6_alike_17 rfl ?_
    refine tk_callV (pc := 19) (y := yX6_areSame) (n := 2) (As := [.int x1, .int x4]) (rest := [.int x3]) C (wk_areSame (ev_l X) hG hw) q2532 q2534 qs115 q2535 ⟨rfl, by decide +kernel⟩ ⟨by decide, by decide⟩ rfl rfl (Nat.le_of_ble_eq_true rfl) dX6_alike_19 (fun v9 u_2 hp => ?_)
    obtain ⟨r_3, rfl, hw⟩ := hp
    refine GK.at (p2 := 22) rfl ?_
    refine gk_if_eq (pc := 22) (tgt := 29) C.1 dX6_alike_22 (by decide) (fun c_4 => ?_) (fun c_4 => ?_)
    · replace hw := hw.1 c_4
      refine gk_iconst (pc := 29) (v := 0) C.1 dX6_alike_29 (by decide) ?_
      refine GK.sub (lv' := [(0, .ref G.2.2.1), (1, .int x1), (4, .int x4)]) [0, 1, 3] rfl ?_
      exact kt_alike_30 C hG hret hXn ih _ _ _ _ _ hw
    · replace hw := hw.2 c_4
      refine gk_iconst (pc := 25) (v := 1) C.1 dX6_alike_25 (by decide) ?_
      refine gk_goto (pc := 26) (tgt := 30) C.1 dX6_alike_26 (by decide) ?_
      refine GK.sub (lv' := [(0, .ref G.2.2.1), (1, .int x1), (4, .int x4)]) [0, 1, 3] rfl ?_
      exact kt_alike_30 C hG hret hXn ih _ _ _ _ _ hw
def wt_alike (k : Int32 → TS → Prop) (x1 : Int32) (x2 : Int32) (u : TS) : Prop := ∃ fu : Nat, wt_alike_5 k fu x1 0 x2 u
theorem wk_alike (l : Launch) {G : TG} (hG : TD G) {k : Int32 → TS → Prop} {x1 : Int32} {x2 : Int32} {u : TS} (hw : wt_alike k x1 x2 u) : TMet l yX6_alike cX6_alike 5 (some .int) 4 G [.ref G.2.2.1, .int x1, .int x2] u (tI k) := by
  refine tk_met hG rfl (Nat.le_of_ble_eq_true rfl) (fun X hXl hXn hret C => ?_)
  subst hXl
  unfold wt_alike at hw
  refine GK.sub (lv' := [(0, .ref G.2.2.1), (1, .int x1), (2, .int x2)]) [0, 1, 2] rfl ?_
  refine gk_iconst (pc := 0) (v := 0) C.1 dX6_alike_0 (by decide) ?_
  refine gk_istore_n (pc := 1) (lv' := [(3, Value.int 0), (0, Value.ref G.2.2.1), (1, Value.int x1), (2, Value.int x2)]) C.1 dX6_alike_1 rfl (by rw [hXn]; decide) rfl ?_
  refine gk_iload_n (pc := 2) C.1 3 dX6_alike_2 rfl rfl ?_
  refine gk_istore (pc := 3) (lv' := [(4, Value.int x2), (3, Value.int 0), (0, Value.ref G.2.2.1), (1, Value.int x1), (2, Value.int x2)]) C.1 dX6_alike_3 (by rw [hXn]; decide) rfl ?_
  refine GK.sub (lv' := [(0, .ref G.2.2.1), (1, .int x1), (3, .int 0), (4, .int x2)]) [2, 3, 1, 0] rfl ?_
  obtain ⟨n9, hw⟩ := hw
  exact kt_alike_5 C hG hret hXn  n9 _ _ _ _ hw
/-! allNumbers()I -/
def wt_allNumbers_32 (k : Int32 → TS → Prop) (J4 : Int32 → Int32 → TS → Prop) (x2 : Int32) (s0 : Int32) (s1 : Int32) (u : TS) : Prop := ∀ x_1 : Int32, x_1 = s0 + s1 → (∀ x_2 : Int32, x_2 = x2 + 1 → (J4 x_1 x_2 u))
theorem kt_allNumbers_32 {X : Ev} {G : TG} {k : Int32 → TS → Prop} {J4 : Int32 → Int32 → TS → Prop} (C : TC X G cX6_allNumbers 1) (hG : TD G) (hret : (ev_h X).sig.returnType = some .int) (hXn : ev_n X = 3) (hJ4 : ∀ (x1 : Int32) (x2 : Int32) (u : TS), J4 x1 x2 u → GK X (TP G u) 0 0 (tQ X G (tI k)) 4 [(0, .ref G.2.2.1), (1, .int x1), (2, .int x2)] []) : ∀ (x2 : Int32) (s0 : Int32) (s1 : Int32) (u : TS), wt_allNumbers_32 k J4 x2 s0 s1 u → GK X (TP G u) 0 0 (tQ X G (tI k)) 32 [(0, .ref G.2.2.1), (2, .int x2)] [.int s1, .int s0] := by
  intro x2 s0 s1 u hw
  unfold wt_allNumbers_32 at hw
  refine gk_iadd (pc := 32) C.1 dX6_allNumbers_32 ?_
  obtain ⟨x_1, ex_1⟩ : ∃ z : Int32, z = s0 + s1 := ⟨_, rfl⟩
  rw [← ex_1]
  replace hw := hw x_1 ex_1
  refine gk_istore_n (pc := 33) (lv' := [(1, Value.int x_1), (0, Value.ref G.2.2.1), (2, Value.int x2)]) C.1 dX6_allNumbers_33 rfl (by rw [hXn]; decide) rfl ?_
  obtain ⟨x_2, ex_2⟩ : ∃ z : Int32, z = x2 + 1 := ⟨_, rfl⟩
  replace hw := hw x_2 ex_2
  refine gk_iinc (pc := 34) (v := x_2) (lv' := [(2, Value.int x_2), (1, Value.int x_1), (0, Value.ref G.2.2.1)]) C.1 2 dX6_allNumbers_34 rfl (by rw [ex_2]; rfl) (by rw [hXn]; decide) rfl ?_
  refine gk_goto (pc := 37) (tgt := 4) C.1 dX6_allNumbers_37 (by decide) ?_
  refine GK.sub (lv' := [(0, .ref G.2.2.1), (1, .int x_1), (2, .int x_2)]) [2, 1, 0] rfl ?_
  exact hJ4 _ _ _ hw
def wt_allNumbers_4 (k : Int32 → TS → Prop) : Nat → Int32 → Int32 → TS → Prop
  | 0 => fun _ _ _ => False
  | n + 1 => fun x1 x2 u => (((u.2 6) ≤ x2 → (k x1 u)) ∧ (¬ (u.2 6) ≤ x2 → (vp_in x2 21 ∧ (((¬ (u.1 1 x2.toNatClampNeg) = 0 → (wt_allNumbers_32 k (fun yx1 yx2 yu => wt_allNumbers_4 k n yx1 yx2 yu) x2 x1 0 u)) ∧ ((u.1 1 x2.toNatClampNeg) = 0 → (vp_in x2 21 ∧ (wt_allNumbers_32 k (fun yx1 yx2 yu => wt_allNumbers_4 k n yx1 yx2 yu) x2 x1 (u.1 2 x2.toNatClampNeg) u))))))))
theorem kt_allNumbers_4 {X : Ev} {G : TG} {k : Int32 → TS → Prop} (C : TC X G cX6_allNumbers 1) (hG : TD G) (hret : (ev_h X).sig.returnType = some .int) (hXn : ev_n X = 3) : ∀ (n : Nat) (x1 : Int32) (x2 : Int32) (u : TS), wt_allNumbers_4 k n x1 x2 u → GK X (TP G u) 0 0 (tQ X G (tI k)) 4 [(0, .ref G.2.2.1), (1, .int x1), (2, .int x2)] [] := by
  intro n
  induction n with
  | zero => intro x1 x2 u hw; exact hw.elim
  | succ n ih =>
  intro x1 x2 u hw
  unfold wt_allNumbers_4 at hw
  refine gk_iload_n (pc := 4) C.1 2 dX6_allNumbers_4 rfl rfl ?_
  refine gk_aload_n (pc := 5) C.1 0 dX6_allNumbers_5 rfl rfl ?_
  refine tk_getI (pc := 6) C (k := 6) (by decide) (by decide) q2127 rfl dX6_allNumbers_6 ?_
  refine gk_icmp_ge (pc := 9) (tgt := 40) C.1 dX6_allNumbers_9 (by decide) (fun c_1 => ?_) (fun c_1 => ?_)
  · replace hw := hw.1 c_1
    refine gk_iload_n (pc := 40) C.1 1 dX6_allNumbers_40 rfl rfl ?_
    exact tk_iret (pc := 41) C hret dX6_allNumbers_41 hw
  · replace hw := hw.2 c_1
    refine gk_iload_n (pc := 12) C.1 1 dX6_allNumbers_12 rfl rfl ?_
    refine gk_aload_n (pc := 13) C.1 0 dX6_allNumbers_13 rfl rfl ?_
    refine tk_getA (pc := 14) C (k := 1) (by decide) (by decide) q2122 rfl dX6_allNumbers_14 ?_
    refine gk_iload_n (pc := 17) C.1 2 dX6_allNumbers_17 rfl rfl ?_
    obtain ⟨hi, hw⟩ := hw
    refine tk_ald (pc := 18) C (k := 1) (by decide) hi dX6_allNumbers_18 ?_
    refine gk_if_ne (pc := 19) (tgt := 31) C.1 dX6_allNumbers_19 (by decide) (fun c_2 => ?_) (fun c_2 => ?_)
    · replace hw := hw.1 c_2
      refine gk_iconst (pc := 31) (v := 0) C.1 dX6_allNumbers_31 (by decide) ?_
      refine GK.sub (lv' := [(0, .ref G.2.2.1), (2, .int x2)]) [0, 2] rfl ?_
      exact kt_allNumbers_32 C hG hret hXn ih _ _ _ _ hw
    · replace hw := hw.2 c_2
      refine gk_aload_n (pc := 22) C.1 0 dX6_allNumbers_22 rfl rfl ?_
      refine tk_getA (pc := 23) C (k := 2) (by decide) (by decide) q2123 rfl dX6_allNumbers_23 ?_
      refine gk_iload_n (pc := 26) C.1 2 dX6_allNumbers_26 rfl rfl ?_
      obtain ⟨hi, hw⟩ := hw
      refine tk_ald (pc := 27) C (k := 2) (by decide) hi dX6_allNumbers_27 ?_
      refine gk_goto (pc := 28) (tgt := 32) C.1 dX6_allNumbers_28 (by decide) ?_
      refine GK.sub (lv' := [(0, .ref G.2.2.1), (2, .int x2)]) [0, 2] rfl ?_
      exact kt_allNumbers_32 C hG hret hXn ih _ _ _ _ hw
def wt_allNumbers (k : Int32 → TS → Prop) (u : TS) : Prop := ∃ fu : Nat, wt_allNumbers_4 k fu 0 0 u
theorem wk_allNumbers (l : Launch) {G : TG} (hG : TD G) {k : Int32 → TS → Prop} {u : TS} (hw : wt_allNumbers k  u) : TMet l yX6_allNumbers cX6_allNumbers 3 (some .int) 1 G [.ref G.2.2.1] u (tI k) := by
  refine tk_met hG rfl (Nat.le_of_ble_eq_true rfl) (fun X hXl hXn hret C => ?_)
  subst hXl
  unfold wt_allNumbers at hw
  refine GK.sub (lv' := [(0, .ref G.2.2.1)]) [0] rfl ?_
  refine gk_iconst (pc := 0) (v := 0) C.1 dX6_allNumbers_0 (by decide) ?_
  refine gk_istore_n (pc := 1) (lv' := [(1, Value.int 0), (0, Value.ref G.2.2.1)]) C.1 dX6_allNumbers_1 rfl (by rw [hXn]; decide) rfl ?_
  refine gk_iconst (pc := 2) (v := 0) C.1 dX6_allNumbers_2 (by decide) ?_
  refine gk_istore_n (pc := 3) (lv' := [(2, Value.int 0), (1, Value.int 0), (0, Value.ref G.2.2.1)]) C.1 dX6_allNumbers_3 rfl (by rw [hXn]; decide) rfl ?_
  refine GK.sub (lv' := [(0, .ref G.2.2.1), (1, .int 0), (2, .int 0)]) [2, 1, 0] rfl ?_
  obtain ⟨n9, hw⟩ := hw
  exact kt_allNumbers_4 C hG hret hXn  n9 _ _ _ hw
/-! isBad(I)V -/
def wt_isBad_16 (k : TS → Prop) (s1 : Int32) (u : TS) : Prop := ∀ u_1 : TS, u_1 = tpI u 44 s1 → (k u_1)
theorem kt_isBad_16 {X : Ev} {G : TG} {k : TS → Prop} (C : TC X G cX6_isBad 1) (hG : TD G) (hret : (ev_h X).sig.returnType = none) (hXn : ev_n X = 2) : ∀ (s1 : Int32) (u : TS), wt_isBad_16 k s1 u → GK X (TP G u) 0 0 (tQ X G (tV k)) 16 [] [.int s1, .ref G.2.2.1] := by
  intro s1 u hw
  unfold wt_isBad_16 at hw
  refine tk_putI (pc := 16) C (k := 44) (by decide) (by decide) q2165 rfl rfl (ty := .int) rfl rfl rfl dX6_isBad_16 (fun u_1 eu_1 => ?_)
  replace hw := hw u_1 eu_1
  exact tk_vret (pc := 19) C hret dX6_isBad_19 hw
def wt_isBad (k : TS → Prop) (x1 : Int32) (u : TS) : Prop := ((0 ≤ (u.2 44) → (wt_isBad_16 k (u.2 44) u)) ∧ (¬ 0 ≤ (u.2 44) → (wt_isBad_16 k x1 u)))
theorem wk_isBad (l : Launch) {G : TG} (hG : TD G) {k : TS → Prop} {x1 : Int32} {u : TS} (hw : wt_isBad k x1 u) : TMet l yX6_isBad cX6_isBad 2 (none) 1 G [.ref G.2.2.1, .int x1] u (tV k) := by
  refine tk_met hG rfl (Nat.le_of_ble_eq_true rfl) (fun X hXl hXn hret C => ?_)
  subst hXl
  unfold wt_isBad at hw
  refine GK.sub (lv' := [(0, .ref G.2.2.1), (1, .int x1)]) [0, 1] rfl ?_
  refine gk_aload_n (pc := 0) C.1 0 dX6_isBad_0 rfl rfl ?_
  refine gk_aload_n (pc := 1) C.1 0 dX6_isBad_1 rfl rfl ?_
  refine tk_getI (pc := 2) C (k := 44) (by decide) (by decide) q2165 rfl dX6_isBad_2 ?_
  refine gk_if_ge (pc := 5) (tgt := 12) C.1 dX6_isBad_5 (by decide) (fun c_1 => ?_) (fun c_1 => ?_)
  · replace hw := hw.1 c_1
    refine gk_aload_n (pc := 12) C.1 0 dX6_isBad_12 rfl rfl ?_
    refine tk_getI (pc := 13) C (k := 44) (by decide) (by decide) q2165 rfl dX6_isBad_13 ?_
    refine GK.sub (lv' := []) [] rfl ?_
    exact kt_isBad_16 C hG hret hXn  _ _ hw
  · replace hw := hw.2 c_1
    refine gk_iload_n (pc := 8) C.1 1 dX6_isBad_8 rfl rfl ?_
    refine gk_goto (pc := 9) (tgt := 16) C.1 dX6_isBad_9 (by decide) ?_
    refine GK.sub (lv' := []) [] rfl ?_
    exact kt_isBad_16 C hG hret hXn  _ _ hw
/-! isInside()Z -/
def wt_isInside_54 (k : Int32 → TS → Prop)  (u : TS) : Prop := k 1 u
theorem kt_isInside_54 {X : Ev} {G : TG} {k : Int32 → TS → Prop} (C : TC X G cX6_isInside 1) (hG : TD G) (hret : (ev_h X).sig.returnType = some .boolean) (hXn : ev_n X = 1) : ∀  (u : TS), wt_isInside_54 k  u → GK X (TP G u) 0 0 (tQ X G (tI k)) 54 [] [] := by
  intro  u hw
  unfold wt_isInside_54 at hw
  refine gk_iconst (pc := 54) (v := 1) C.1 dX6_isInside_54 (by decide) ?_
  refine gk_goto (pc := 55) (tgt := 59) C.1 dX6_isInside_55 (by decide) ?_
  exact tk_zret (pc := 59) C hret dX6_isInside_59 bz1 hw
def wt_isInside (k : Int32 → TS → Prop) (u : TS) : Prop := (((u.2 45) ≤ 0 → (k 0 u)) ∧ (¬ (u.2 45) ≤ 0 → (vp_in ((u.2 45) - 1) 100 ∧ ((((u.1 41 ((u.2 45) - 1).toNatClampNeg) = 1 → (wt_isInside_54 k u)) ∧ (¬ (u.1 41 ((u.2 45) - 1).toNatClampNeg) = 1 → (vp_in ((u.2 45) - 1) 100 ∧ ((((u.1 38 ((u.2 45) - 1).toNatClampNeg) = 123 → (wt_isInside_54 k u)) ∧ (¬ (u.1 38 ((u.2 45) - 1).toNatClampNeg) = 123 → (vp_in ((u.2 45) - 1) 100 ∧ (((¬ (u.1 38 ((u.2 45) - 1).toNatClampNeg) = 64 → (k 0 u)) ∧ ((u.1 38 ((u.2 45) - 1).toNatClampNeg) = 64 → (wt_isInside_54 k u)))))))))))))))
theorem wk_isInside (l : Launch) {G : TG} (hG : TD G) {k : Int32 → TS → Prop} {u : TS} (hw : wt_isInside k  u) : TMet l yX6_isInside cX6_isInside 1 (some .boolean) 1 G [.ref G.2.2.1] u (tI k) := by
  refine tk_met hG rfl (Nat.le_of_ble_eq_true rfl) (fun X hXl hXn hret C => ?_)
  subst hXl
  unfold wt_isInside at hw
  refine GK.sub (lv' := [(0, .ref G.2.2.1)]) [0] rfl ?_
  refine gk_aload_n (pc := 0) C.1 0 dX6_isInside_0 rfl rfl ?_
  refine tk_getI (pc := 1) C (k := 45) (by decide) (by decide) q2166 rfl dX6_isInside_1 ?_
  refine gk_if_le (pc := 4) (tgt := 58) C.1 dX6_isInside_4 (by decide) (fun c_1 => ?_) (fun c_1 => ?_)
  · replace hw := hw.1 c_1
    refine gk_iconst (pc := 58) (v := 0) C.1 dX6_isInside_58 (by decide) ?_
    exact tk_zret (pc := 59) C hret dX6_isInside_59 bz0 hw
  · replace hw := hw.2 c_1
    refine gk_aload_n (pc := 7) C.1 0 dX6_isInside_7 rfl rfl ?_
    refine tk_getA (pc := 8) C (k := 41) (by decide) (by decide) q2162 rfl dX6_isInside_8 ?_
    refine gk_aload_n (pc := 11) C.1 0 dX6_isInside_11 rfl rfl ?_
    refine tk_getI (pc := 12) C (k := 45) (by decide) (by decide) q2166 rfl dX6_isInside_12 ?_
    refine gk_iconst (pc := 15) (v := 1) C.1 dX6_isInside_15 (by decide) ?_
    refine gk_isub (pc := 16) C.1 dX6_isInside_16 ?_
    obtain ⟨hi, hw⟩ := hw
    refine tk_ald (pc := 17) C (k := 41) (by decide) hi dX6_isInside_17 ?_
    refine gk_iconst (pc := 18) (v := 1) C.1 dX6_isInside_18 (by decide) ?_
    refine gk_icmp_eq (pc := 19) (tgt := 54) C.1 dX6_isInside_19 (by decide) (fun c_2 => ?_) (fun c_2 => ?_)
    · replace hw := hw.1 c_2
      refine GK.sub (lv' := []) [] rfl ?_
      exact kt_isInside_54 C hG hret hXn   _ hw
    · replace hw := hw.2 c_2
      refine gk_aload_n (pc := 22) C.1 0 dX6_isInside_22 rfl rfl ?_
      refine tk_getA (pc := 23) C (k := 38) (by decide) (by decide) q2159 rfl dX6_isInside_23 ?_
      refine gk_aload_n (pc := 26) C.1 0 dX6_isInside_26 rfl rfl ?_
      refine tk_getI (pc := 27) C (k := 45) (by decide) (by decide) q2166 rfl dX6_isInside_27 ?_
      refine gk_iconst (pc := 30) (v := 1) C.1 dX6_isInside_30 (by decide) ?_
      refine gk_isub (pc := 31) C.1 dX6_isInside_31 ?_
      obtain ⟨hi, hw⟩ := hw
      refine tk_ald (pc := 32) C (k := 38) (by decide) hi dX6_isInside_32 ?_
      refine gk_bipush (pc := 33) (v := 123) C.1 dX6_isInside_33 (by decide) ?_
      refine gk_icmp_eq (pc := 35) (tgt := 54) C.1 dX6_isInside_35 (by decide) (fun c_3 => ?_) (fun c_3 => ?_)
      · replace hw := hw.1 c_3
        refine GK.sub (lv' := []) [] rfl ?_
        exact kt_isInside_54 C hG hret hXn   _ hw
      · replace hw := hw.2 c_3
        refine gk_aload_n (pc := 38) C.1 0 dX6_isInside_38 rfl rfl ?_
        refine tk_getA (pc := 39) C (k := 38) (by decide) (by decide) q2159 rfl dX6_isInside_39 ?_
        refine gk_aload_n (pc := 42) C.1 0 dX6_isInside_42 rfl rfl ?_
        refine tk_getI (pc := 43) C (k := 45) (by decide) (by decide) q2166 rfl dX6_isInside_43 ?_
        refine gk_iconst (pc := 46) (v := 1) C.1 dX6_isInside_46 (by decide) ?_
        refine gk_isub (pc := 47) C.1 dX6_isInside_47 ?_
        obtain ⟨hi, hw⟩ := hw
        refine tk_ald (pc := 48) C (k := 38) (by decide) hi dX6_isInside_48 ?_
        refine gk_bipush (pc := 49) (v := 64) C.1 dX6_isInside_49 (by decide) ?_
        refine gk_icmp_ne (pc := 51) (tgt := 58) C.1 dX6_isInside_51 (by decide) (fun c_4 => ?_) (fun c_4 => ?_)
        · replace hw := hw.1 c_4
          refine gk_iconst (pc := 58) (v := 0) C.1 dX6_isInside_58 (by decide) ?_
          exact tk_zret (pc := 59) C hret dX6_isInside_59 bz0 hw
        · replace hw := hw.2 c_4
          refine GK.sub (lv' := []) [] rfl ?_
          exact kt_isInside_54 C hG hret hXn   _ hw
/-! beginsCheck(I)I -/
def wt_beginsCheck_73 (k : Int32 → TS → Prop) (x1 : Int32) (x2 : Int32) (s1 : Int32) (s2 : Int32) (u : TS) : Prop := ∀ u_1 : TS, u_1 = tpI u 23 (s1 + s2) → (vp_in x2 25 ∧ (∀ u_2 : TS, u_2 = tpA u_1 7 x2.toNatClampNeg x1 → (vp_in x2 25 ∧ (∀ u_3 : TS, u_3 = tpA u_2 8 x2.toNatClampNeg 0 → (vp_in x2 25 ∧ (∀ u_4 : TS, u_4 = tpA u_3 9 x2.toNatClampNeg 0 → (vp_in x2 25 ∧ (∀ u_5 : TS, u_5 = tpA u_4 10 x2.toNatClampNeg 0 → (vp_in x2 25 ∧ (∀ u_6 : TS, u_6 = tpA u_5 11 x2.toNatClampNeg 0 → (∀ u_7 : TS, u_7 = tpI u_6 20 ((u_6.2 20) + 1) → (∀ u_8 : TS, u_8 = tpI u_7 43 ((u_7.2 43) + 1) → (k x2 u_8)))))))))))))
theorem kt_beginsCheck_73 {X : Ev} {G : TG} {k : Int32 → TS → Prop} (C : TC X G cX6_beginsCheck 2) (hG : TD G) (hret : (ev_h X).sig.returnType = some .int) (hXn : ev_n X = 3) : ∀ (x1 : Int32) (x2 : Int32) (s1 : Int32) (s2 : Int32) (u : TS), wt_beginsCheck_73 k x1 x2 s1 s2 u → GK X (TP G u) 0 0 (tQ X G (tI k)) 73 [(0, .ref G.2.2.1), (1, .int x1), (2, .int x2)] [.int s2, .int s1, .ref G.2.2.1] := by
  intro x1 x2 s1 s2 u hw
  unfold wt_beginsCheck_73 at hw
  refine gk_iadd (pc := 73) C.1 dX6_beginsCheck_73 ?_
  refine tk_putI (pc := 74) C (k := 23) (by decide) (by decide) q2144 rfl rfl (ty := .int) rfl rfl rfl dX6_beginsCheck_74 (fun u_1 eu_1 => ?_)
  replace hw := hw u_1 eu_1
  refine gk_aload_n (pc := 77) C.1 0 dX6_beginsCheck_77 rfl rfl ?_
  refine tk_getA (pc := 78) C (k := 7) (by decide) (by decide) q2128 rfl dX6_beginsCheck_78 ?_
  refine gk_iload_n (pc := 81) C.1 2 dX6_beginsCheck_81 rfl rfl ?_
  refine gk_iload_n (pc := 82) C.1 1 dX6_beginsCheck_82 rfl rfl ?_
  obtain ⟨hi, hw⟩ := hw
  refine tk_ast (pc := 83) C (k := 7) (by decide) hi dX6_beginsCheck_83 (fun u_2 eu_2 => ?_)
  replace hw := hw u_2 eu_2
  refine gk_aload_n (pc := 84) C.1 0 dX6_beginsCheck_84 rfl rfl ?_
  refine tk_getA (pc := 85) C (k := 8) (by decide) (by decide) q2129 rfl dX6_beginsCheck_85 ?_
  refine gk_iload_n (pc := 88) C.1 2 dX6_beginsCheck_88 rfl rfl ?_
  refine gk_iconst (pc := 89) (v := 0) C.1 dX6_beginsCheck_89 (by decide) ?_
  obtain ⟨hi, hw⟩ := hw
  refine tk_ast (pc := 90) C (k := 8) (by decide) hi dX6_beginsCheck_90 (fun u_3 eu_3 => ?_)
  replace hw := hw u_3 eu_3
  refine gk_aload_n (pc := 91) C.1 0 dX6_beginsCheck_91 rfl rfl ?_
  refine tk_getA (pc := 92) C (k := 9) (by decide) (by decide) q2130 rfl dX6_beginsCheck_92 ?_
  refine gk_iload_n (pc := 95) C.1 2 dX6_beginsCheck_95 rfl rfl ?_
  refine gk_iconst (pc := 96) (v := 0) C.1 dX6_beginsCheck_96 (by decide) ?_
  obtain ⟨hi, hw⟩ := hw
  refine tk_ast (pc := 97) C (k := 9) (by decide) hi dX6_beginsCheck_97 (fun u_4 eu_4 => ?_)
  replace hw := hw u_4 eu_4
  refine gk_aload_n (pc := 98) C.1 0 dX6_beginsCheck_98 rfl rfl ?_
  refine tk_getA (pc := 99) C (k := 10) (by decide) (by decide) q2131 rfl dX6_beginsCheck_99 ?_
  refine gk_iload_n (pc := 102) C.1 2 dX6_beginsCheck_102 rfl rfl ?_
  refine gk_iconst (pc := 103) (v := 0) C.1 dX6_beginsCheck_103 (by decide) ?_
  obtain ⟨hi, hw⟩ := hw
  refine tk_ast (pc := 104) C (k := 10) (by decide) hi dX6_beginsCheck_104 (fun u_5 eu_5 => ?_)
  replace hw := hw u_5 eu_5
  refine gk_aload_n (pc := 105) C.1 0 dX6_beginsCheck_105 rfl rfl ?_
  refine tk_getA (pc := 106) C (k := 11) (by decide) (by decide) q2132 rfl dX6_beginsCheck_106 ?_
  refine gk_iload_n (pc := 109) C.1 2 dX6_beginsCheck_109 rfl rfl ?_
  refine gk_iconst (pc := 110) (v := 0) C.1 dX6_beginsCheck_110 (by decide) ?_
  obtain ⟨hi, hw⟩ := hw
  refine tk_ast (pc := 111) C (k := 11) (by decide) hi dX6_beginsCheck_111 (fun u_6 eu_6 => ?_)
  replace hw := hw u_6 eu_6
  refine gk_aload_n (pc := 112) C.1 0 dX6_beginsCheck_112 rfl rfl ?_
  refine gk_dup (pc := 113) C.1 dX6_beginsCheck_113 rfl ?_
  refine tk_getI (pc := 114) C (k := 20) (by decide) (by decide) q2141 rfl dX6_beginsCheck_114 ?_
  refine gk_iconst (pc := 117) (v := 1) C.1 dX6_beginsCheck_117 (by decide) ?_
  refine gk_iadd (pc := 118) C.1 dX6_beginsCheck_118 ?_
  refine tk_putI (pc := 119) C (k := 20) (by decide) (by decide) q2141 rfl rfl (ty := .int) rfl rfl rfl dX6_beginsCheck_119 (fun u_7 eu_7 => ?_)
  replace hw := hw u_7 eu_7
  refine gk_aload_n (pc := 122) C.1 0 dX6_beginsCheck_122 rfl rfl ?_
  refine gk_dup (pc := 123) C.1 dX6_beginsCheck_123 rfl ?_
  refine tk_getI (pc := 124) C (k := 43) (by decide) (by decide) q2164 rfl dX6_beginsCheck_124 ?_
  refine gk_iconst (pc := 127) (v := 1) C.1 dX6_beginsCheck_127 (by decide) ?_
  refine gk_iadd (pc := 128) C.1 dX6_beginsCheck_128 ?_
  refine tk_putI (pc := 129) C (k := 43) (by decide) (by decide) q2164 rfl rfl (ty := .int) rfl rfl rfl dX6_beginsCheck_129 (fun u_8 eu_8 => ?_)
  replace hw := hw u_8 eu_8
  refine gk_iload_n (pc := 132) C.1 2 dX6_beginsCheck_132 rfl rfl ?_
  exact tk_iret (pc := 133) C hret dX6_beginsCheck_133 hw
def wt_beginsCheck_57 (k : Int32 → TS → Prop) (x1 : Int32) (x2 : Int32) (u : TS) : Prop := ((¬ x1 = 94 → (wt_beginsCheck_73 k x1 x2 (u.2 23) 0 u)) ∧ (x1 = 94 → (wt_beginsCheck_73 k x1 x2 (u.2 23) 1 u)))
theorem kt_beginsCheck_57 {X : Ev} {G : TG} {k : Int32 → TS → Prop} (C : TC X G cX6_beginsCheck 2) (hG : TD G) (hret : (ev_h X).sig.returnType = some .int) (hXn : ev_n X = 3) : ∀ (x1 : Int32) (x2 : Int32) (u : TS), wt_beginsCheck_57 k x1 x2 u → GK X (TP G u) 0 0 (tQ X G (tI k)) 57 [(0, .ref G.2.2.1), (1, .int x1), (2, .int x2)] [] := by
  intro x1 x2 u hw
  unfold wt_beginsCheck_57 at hw
  refine gk_aload_n (pc := 57) C.1 0 dX6_beginsCheck_57 rfl rfl ?_
  refine gk_dup (pc := 58) C.1 dX6_beginsCheck_58 rfl ?_
  refine tk_getI (pc := 59) C (k := 23) (by decide) (by decide) q2144 rfl dX6_beginsCheck_59 ?_
  refine gk_iload_n (pc := 62) C.1 1 dX6_beginsCheck_62 rfl rfl ?_
  refine gk_bipush (pc := 63) (v := 94) C.1 dX6_beginsCheck_63 (by decide) ?_
  refine gk_icmp_ne (pc := 65) (tgt := 72) C.1 dX6_beginsCheck_65 (by decide) (fun c_1 => ?_) (fun c_1 => ?_)
  · replace hw := hw.1 c_1
    refine gk_iconst (pc := 72) (v := 0) C.1 dX6_beginsCheck_72 (by decide) ?_
    refine GK.sub (lv' := [(0, .ref G.2.2.1), (1, .int x1), (2, .int x2)]) [0, 1, 2] rfl ?_
    exact kt_beginsCheck_73 C hG hret hXn  _ _ _ _ _ hw
  · replace hw := hw.2 c_1
    refine gk_iconst (pc := 68) (v := 1) C.1 dX6_beginsCheck_68 (by decide) ?_
    refine gk_goto (pc := 69) (tgt := 73) C.1 dX6_beginsCheck_69 (by decide) ?_
    refine GK.sub (lv' := [(0, .ref G.2.2.1), (1, .int x1), (2, .int x2)]) [0, 1, 2] rfl ?_
    exact kt_beginsCheck_73 C hG hret hXn  _ _ _ _ _ hw
def wt_beginsCheck_49 (k : Int32 → TS → Prop) (x1 : Int32) (x2 : Int32) (u : TS) : Prop := wt_isBad (fun u_1 => wt_beginsCheck_57 k x1 x2 u_1) (u.2 43) u
theorem kt_beginsCheck_49 {X : Ev} {G : TG} {k : Int32 → TS → Prop} (C : TC X G cX6_beginsCheck 2) (hG : TD G) (hret : (ev_h X).sig.returnType = some .int) (hXn : ev_n X = 3) : ∀ (x1 : Int32) (x2 : Int32) (u : TS), wt_beginsCheck_49 k x1 x2 u → GK X (TP G u) 0 0 (tQ X G (tI k)) 49 [(0, .ref G.2.2.1), (1, .int x1), (2, .int x2)] [] := by
  intro x1 x2 u hw
  unfold wt_beginsCheck_49 at hw
  refine gk_aload_n (pc := 49) C.1 0 dX6_beginsCheck_49 rfl rfl ?_
  refine gk_aload_n (pc := 50) C.1 0 dX6_beginsCheck_50 rfl rfl ?_
  refine tk_getI (pc := 51) C (k := 43) (by decide) (by decide) q2164 rfl dX6_beginsCheck_51 ?_
  refine tk_callV (pc := 54) (y := yX6_isBad) (n := 1) (As := [.int (u.2 43)]) (rest := []) C (wk_isBad (ev_l X) hG hw) q2334 q2336 qs75 q2337 ⟨rfl, by decide +kernel⟩ ⟨by decide, by decide⟩ rfl rfl (Nat.le_of_ble_eq_true rfl) dX6_beginsCheck_54 (fun v9 u_1 hp => ?_)
  obtain ⟨rfl, hw⟩ := hp
  refine GK.at (p2 := 57) rfl ?_
  refine GK.sub (lv' := [(0, .ref G.2.2.1), (1, .int x1), (2, .int x2)]) [0, 1, 2] rfl ?_
  exact kt_beginsCheck_57 C hG hret hXn  _ _ _ hw
def wt_beginsCheck_18 (k : Int32 → TS → Prop) (x1 : Int32) (s0 : Int32) (u : TS) : Prop := ((24 ≤ (u.2 20) → (wt_beginsCheck_49 k x1 s0 u)) ∧ (¬ 24 ≤ (u.2 20) → (((¬ x1 = 94 → (wt_beginsCheck_57 k x1 s0 u)) ∧ (x1 = 94 → (wt_isInside (fun r_4 u_3 => ((r_4 = 0 → (wt_beginsCheck_49 k x1 s0 u_3)) ∧ (¬ r_4 = 0 → (((¬ (u_3.2 23) = 3 → (wt_beginsCheck_57 k x1 s0 u_3)) ∧ ((u_3.2 23) = 3 → (wt_beginsCheck_49 k x1 s0 u_3))))))) u))))))
theorem kt_beginsCheck_18 {X : Ev} {G : TG} {k : Int32 → TS → Prop} (C : TC X G cX6_beginsCheck 2) (hG : TD G) (hret : (ev_h X).sig.returnType = some .int) (hXn : ev_n X = 3) : ∀ (x1 : Int32) (s0 : Int32) (u : TS), wt_beginsCheck_18 k x1 s0 u → GK X (TP G u) 0 0 (tQ X G (tI k)) 18 [(0, .ref G.2.2.1), (1, .int x1)] [.int s0] := by
  intro x1 s0 u hw
  unfold wt_beginsCheck_18 at hw
  refine gk_istore_n (pc := 18) (lv' := [(2, Value.int s0), (0, Value.ref G.2.2.1), (1, Value.int x1)]) C.1 dX6_beginsCheck_18 rfl (by rw [hXn]; decide) rfl ?_
  refine gk_aload_n (pc := 19) C.1 1 dX6_beginsCheck_19 rfl rfl ?_
  refine tk_getI (pc := 20) C (k := 20) (by decide) (by decide) q2141 rfl dX6_beginsCheck_20 ?_
  refine gk_bipush (pc := 23) (v := 24) C.1 dX6_beginsCheck_23 (by decide) ?_
  refine gk_icmp_ge (pc := 25) (tgt := 49) C.1 dX6_beginsCheck_25 (by decide) (fun c_1 => ?_) (fun c_1 => ?_)
  · replace hw := hw.1 c_1
    refine GK.sub (lv' := [(0, .ref G.2.2.1), (1, .int x1), (2, .int s0)]) [1, 2, 0] rfl ?_
    exact kt_beginsCheck_49 C hG hret hXn  _ _ _ hw
  · replace hw := hw.2 c_1
    refine gk_iload_n (pc := 28) C.1 2 dX6_beginsCheck_28 rfl rfl ?_
    refine gk_bipush (pc := 29) (v := 94) C.1 dX6_beginsCheck_29 (by decide) ?_
    refine gk_icmp_ne (pc := 31) (tgt := 57) C.1 dX6_beginsCheck_31 (by decide) (fun c_2 => ?_) (fun c_2 => ?_)
    · replace hw := hw.1 c_2
      refine GK.sub (lv' := [(0, .ref G.2.2.1), (1, .int x1), (2, .int s0)]) [1, 2, 0] rfl ?_
      exact kt_beginsCheck_57 C hG hret hXn  _ _ _ hw
    · replace hw := hw.2 c_2
      refine gk_aload_n (pc := 34) C.1 1 dX6_beginsCheck_34 rfl rfl ?_
      refine tk_callV (pc := 35) (y := yX6_isInside) (n := 0) (As := []) (rest := []) C (wk_isInside (ev_l X) hG hw) q2385 q2387 qs86 q2388 ⟨rfl, by decide +kernel⟩ ⟨by decide, by decide⟩ rfl rfl (Nat.le_of_ble_eq_true rfl) dX6_beginsCheck_35 (fun v9 u_3 hp => ?_)
      obtain ⟨r_4, rfl, hw⟩ := hp
      refine GK.at (p2 := 38) rfl ?_
      refine gk_if_eq (pc := 38) (tgt := 49) C.1 dX6_beginsCheck_38 (by decide) (fun c_5 => ?_) (fun c_5 => ?_)
      · replace hw := hw.1 c_5
        refine GK.sub (lv' := [(0, .ref G.2.2.1), (1, .int x1), (2, .int s0)]) [1, 2, 0] rfl ?_
        exact kt_beginsCheck_49 C hG hret hXn  _ _ _ hw
      · replace hw := hw.2 c_5
        refine gk_aload_n (pc := 41) C.1 1 dX6_beginsCheck_41 rfl rfl ?_
        refine tk_getI (pc := 42) C (k := 23) (by decide) (by decide) q2144 rfl dX6_beginsCheck_42 ?_
        refine gk_iconst (pc := 45) (v := 3) C.1 dX6_beginsCheck_45 (by decide) ?_
        refine gk_icmp_ne (pc := 46) (tgt := 57) C.1 dX6_beginsCheck_46 (by decide) (fun c_6 => ?_) (fun c_6 => ?_)
        · replace hw := hw.1 c_6
          refine GK.sub (lv' := [(0, .ref G.2.2.1), (1, .int x1), (2, .int s0)]) [1, 2, 0] rfl ?_
          exact kt_beginsCheck_57 C hG hret hXn  _ _ _ hw
        · replace hw := hw.2 c_6
          refine GK.sub (lv' := [(0, .ref G.2.2.1), (1, .int x1), (2, .int s0)]) [1, 2, 0] rfl ?_
          exact kt_beginsCheck_49 C hG hret hXn  _ _ _ hw
def wt_beginsCheck (k : Int32 → TS → Prop) (x1 : Int32) (u : TS) : Prop := ((24 ≤ (u.2 20) → (wt_beginsCheck_18 k x1 24 u)) ∧ (¬ 24 ≤ (u.2 20) → (wt_beginsCheck_18 k x1 (u.2 20) u)))
theorem wk_beginsCheck (l : Launch) {G : TG} (hG : TD G) {k : Int32 → TS → Prop} {x1 : Int32} {u : TS} (hw : wt_beginsCheck k x1 u) : TMet l yX6_beginsCheck cX6_beginsCheck 3 (some .int) 2 G [.ref G.2.2.1, .int x1] u (tI k) := by
  refine tk_met hG rfl (Nat.le_of_ble_eq_true rfl) (fun X hXl hXn hret C => ?_)
  subst hXl
  unfold wt_beginsCheck at hw
  refine GK.sub (lv' := [(0, .ref G.2.2.1), (1, .int x1)]) [0, 1] rfl ?_
  refine gk_aload_n (pc := 0) C.1 0 dX6_beginsCheck_0 rfl rfl ?_
  refine tk_getI (pc := 1) C (k := 20) (by decide) (by decide) q2141 rfl dX6_beginsCheck_1 ?_
  refine gk_bipush (pc := 4) (v := 24) C.1 dX6_beginsCheck_4 (by decide) ?_
  refine gk_icmp_ge (pc := 6) (tgt := 16) C.1 dX6_beginsCheck_6 (by decide) (fun c_1 => ?_) (fun c_1 => ?_)
  · replace hw := hw.1 c_1
    refine gk_bipush (pc := 16) (v := 24) C.1 dX6_beginsCheck_16 (by decide) ?_
    refine GK.sub (lv' := [(0, .ref G.2.2.1), (1, .int x1)]) [0, 1] rfl ?_
    exact kt_beginsCheck_18 C hG hret hXn  _ _ _ hw
  · replace hw := hw.2 c_1
    refine gk_aload_n (pc := 9) C.1 0 dX6_beginsCheck_9 rfl rfl ?_
    refine tk_getI (pc := 10) C (k := 20) (by decide) (by decide) q2141 rfl dX6_beginsCheck_10 ?_
    refine gk_goto (pc := 13) (tgt := 18) C.1 dX6_beginsCheck_13 (by decide) ?_
    refine GK.sub (lv' := [(0, .ref G.2.2.1), (1, .int x1)]) [0, 1] rfl ?_
    exact kt_beginsCheck_18 C hG hret hXn  _ _ _ hw
/-! beginsPart(II)I -/
def wt_beginsPart_115 (k : Int32 → TS → Prop) (x1 : Int32) (x2 : Int32) (x3 : Int32) (u : TS) : Prop := vp_in x3 21 ∧ (∀ u_1 : TS, u_1 = tpA u 1 x3.toNatClampNeg x1 → (vp_in x3 21 ∧ (∀ u_2 : TS, u_2 = tpA u_1 2 x3.toNatClampNeg x2 → (vp_in x3 21 ∧ (∀ u_3 : TS, u_3 = tpA u_2 3 x3.toNatClampNeg (u_2.2 46) → (∀ u_4 : TS, u_4 = tpI u_3 6 ((u_3.2 6) + 1) → (k x3 u_4)))))))
theorem kt_beginsPart_115 {X : Ev} {G : TG} {k : Int32 → TS → Prop} (C : TC X G cX6_beginsPart 2) (hG : TD G) (hret : (ev_h X).sig.returnType = some .int) (hXn : ev_n X = 5) : ∀ (x1 : Int32) (x2 : Int32) (x3 : Int32) (u : TS), wt_beginsPart_115 k x1 x2 x3 u → GK X (TP G u) 0 0 (tQ X G (tI k)) 115 [(0, .ref G.2.2.1), (1, .int x1), (2, .int x2), (3, .int x3)] [] := by
  intro x1 x2 x3 u hw
  unfold wt_beginsPart_115 at hw
  refine gk_aload_n (pc := 115) C.1 0 dX6_beginsPart_115 rfl rfl ?_
  refine tk_getA (pc := 116) C (k := 1) (by decide) (by decide) q2122 rfl dX6_beginsPart_116 ?_
  refine gk_iload_n (pc := 119) C.1 3 dX6_beginsPart_119 rfl rfl ?_
  refine gk_iload_n (pc := 120) C.1 1 dX6_beginsPart_120 rfl rfl ?_
  obtain ⟨hi, hw⟩ := hw
  refine tk_ast (pc := 121) C (k := 1) (by decide) hi dX6_beginsPart_121 (fun u_1 eu_1 => ?_)
  replace hw := hw u_1 eu_1
  refine gk_aload_n (pc := 122) C.1 0 dX6_beginsPart_122 rfl rfl ?_
  refine tk_getA (pc := 123) C (k := 2) (by decide) (by decide) q2123 rfl dX6_beginsPart_123 ?_
  refine gk_iload_n (pc := 126) C.1 3 dX6_beginsPart_126 rfl rfl ?_
  refine gk_iload_n (pc := 127) C.1 2 dX6_beginsPart_127 rfl rfl ?_
  obtain ⟨hi, hw⟩ := hw
  refine tk_ast (pc := 128) C (k := 2) (by decide) hi dX6_beginsPart_128 (fun u_2 eu_2 => ?_)
  replace hw := hw u_2 eu_2
  refine gk_aload_n (pc := 129) C.1 0 dX6_beginsPart_129 rfl rfl ?_
  refine tk_getA (pc := 130) C (k := 3) (by decide) (by decide) q2124 rfl dX6_beginsPart_130 ?_
  refine gk_iload_n (pc := 133) C.1 3 dX6_beginsPart_133 rfl rfl ?_
  refine gk_aload_n (pc := 134) C.1 0 dX6_beginsPart_134 rfl rfl ?_
  refine tk_getI (pc := 135) C (k := 46) (by decide) (by decide) q2167 rfl dX6_beginsPart_135 ?_
  obtain ⟨hi, hw⟩ := hw
  refine tk_ast (pc := 138) C (k := 3) (by decide) hi dX6_beginsPart_138 (fun u_3 eu_3 => ?_)
  replace hw := hw u_3 eu_3
  refine gk_aload_n (pc := 139) C.1 0 dX6_beginsPart_139 rfl rfl ?_
  refine gk_dup (pc := 140) C.1 dX6_beginsPart_140 rfl ?_
  refine tk_getI (pc := 141) C (k := 6) (by decide) (by decide) q2127 rfl dX6_beginsPart_141 ?_
  refine gk_iconst (pc := 144) (v := 1) C.1 dX6_beginsPart_144 (by decide) ?_
  refine gk_iadd (pc := 145) C.1 dX6_beginsPart_145 ?_
  refine tk_putI (pc := 146) C (k := 6) (by decide) (by decide) q2127 rfl rfl (ty := .int) rfl rfl rfl dX6_beginsPart_146 (fun u_4 eu_4 => ?_)
  replace hw := hw u_4 eu_4
  refine gk_iload_n (pc := 149) C.1 3 dX6_beginsPart_149 rfl rfl ?_
  exact tk_iret (pc := 150) C hret dX6_beginsPart_150 hw
def wt_beginsPart_93 (k : Int32 → TS → Prop) (x1 : Int32) (x2 : Int32) (x3 : Int32) (u : TS) : Prop := (((u.2 45) ≤ 0 → (wt_beginsPart_115 k x1 x2 x3 u)) ∧ (¬ (u.2 45) ≤ 0 → (vp_in ((u.2 45) - 1) 100 ∧ (vp_in ((u.2 45) - 1) 100 ∧ (∀ u_2 : TS, u_2 = tpA u 40 ((u.2 45) - 1).toNatClampNeg ((u.1 40 ((u.2 45) - 1).toNatClampNeg) + 1) → (wt_beginsPart_115 k x1 x2 x3 u_2))))))
theorem kt_beginsPart_93 {X : Ev} {G : TG} {k : Int32 → TS → Prop} (C : TC X G cX6_beginsPart 2) (hG : TD G) (hret : (ev_h X).sig.returnType = some .int) (hXn : ev_n X = 5) : ∀ (x1 : Int32) (x2 : Int32) (x3 : Int32) (u : TS), wt_beginsPart_93 k x1 x2 x3 u → GK X (TP G u) 0 0 (tQ X G (tI k)) 93 [(0, .ref G.2.2.1), (1, .int x1), (2, .int x2), (3, .int x3)] [] := by
  intro x1 x2 x3 u hw
  unfold wt_beginsPart_93 at hw
  refine gk_aload_n (pc := 93) C.1 0 dX6_beginsPart_93 rfl rfl ?_
  refine tk_getI (pc := 94) C (k := 45) (by decide) (by decide) q2166 rfl dX6_beginsPart_94 ?_
  refine gk_if_le (pc := 97) (tgt := 115) C.1 dX6_beginsPart_97 (by decide) (fun c_1 => ?_) (fun c_1 => ?_)
  · replace hw := hw.1 c_1
    refine GK.sub (lv' := [(0, .ref G.2.2.1), (1, .int x1), (2, .int x2), (3, .int x3)]) [0, 1, 2, 3] rfl ?_
    exact kt_beginsPart_115 C hG hret hXn  _ _ _ _ hw
  · replace hw := hw.2 c_1
    refine gk_aload_n (pc := 100) C.1 0 dX6_beginsPart_100 rfl rfl ?_
    refine tk_getA (pc := 101) C (k := 40) (by decide) (by decide) q2161 rfl dX6_beginsPart_101 ?_
    refine gk_aload_n (pc := 104) C.1 0 dX6_beginsPart_104 rfl rfl ?_
    refine tk_getI (pc := 105) C (k := 45) (by decide) (by decide) q2166 rfl dX6_beginsPart_105 ?_
    refine gk_iconst (pc := 108) (v := 1) C.1 dX6_beginsPart_108 (by decide) ?_
    refine gk_isub (pc := 109) C.1 dX6_beginsPart_109 ?_
    refine gk_dup2 (pc := 110) C.1 dX6_beginsPart_110 rfl rfl ?_
    obtain ⟨hi, hw⟩ := hw
    refine tk_ald (pc := 111) C (k := 40) (by decide) hi dX6_beginsPart_111 ?_
    refine gk_iconst (pc := 112) (v := 1) C.1 dX6_beginsPart_112 (by decide) ?_
    refine gk_iadd (pc := 113) C.1 dX6_beginsPart_113 ?_
    obtain ⟨hi, hw⟩ := hw
    refine tk_ast (pc := 114) C (k := 40) (by decide) hi dX6_beginsPart_114 (fun u_2 eu_2 => ?_)
    replace hw := hw u_2 eu_2
    refine GK.sub (lv' := [(0, .ref G.2.2.1), (1, .int x1), (2, .int x2), (3, .int x3)]) [0, 1, 2, 3] rfl ?_
    exact kt_beginsPart_115 C hG hret hXn  _ _ _ _ hw
def wt_beginsPart_85 (k : Int32 → TS → Prop) (x1 : Int32) (x2 : Int32) (x3 : Int32) (u : TS) : Prop := wt_isBad (fun u_1 => wt_beginsPart_93 k x1 x2 x3 u_1) (u.2 43) u
theorem kt_beginsPart_85 {X : Ev} {G : TG} {k : Int32 → TS → Prop} (C : TC X G cX6_beginsPart 2) (hG : TD G) (hret : (ev_h X).sig.returnType = some .int) (hXn : ev_n X = 5) : ∀ (x1 : Int32) (x2 : Int32) (x3 : Int32) (u : TS), wt_beginsPart_85 k x1 x2 x3 u → GK X (TP G u) 0 0 (tQ X G (tI k)) 85 [(0, .ref G.2.2.1), (1, .int x1), (2, .int x2), (3, .int x3)] [] := by
  intro x1 x2 x3 u hw
  unfold wt_beginsPart_85 at hw
  refine gk_aload_n (pc := 85) C.1 0 dX6_beginsPart_85 rfl rfl ?_
  refine gk_aload_n (pc := 86) C.1 0 dX6_beginsPart_86 rfl rfl ?_
  refine tk_getI (pc := 87) C (k := 43) (by decide) (by decide) q2164 rfl dX6_beginsPart_87 ?_
  refine tk_callV (pc := 90) (y := yX6_isBad) (n := 1) (As := [.int (u.2 43)]) (rest := []) C (wk_isBad (ev_l X) hG hw) q2334 q2336 qs75 q2337 ⟨rfl, by decide +kernel⟩ ⟨by decide, by decide⟩ rfl rfl (Nat.le_of_ble_eq_true rfl) dX6_beginsPart_90 (fun v9 u_1 hp => ?_)
  obtain ⟨rfl, hw⟩ := hp
  refine GK.at (p2 := 93) rfl ?_
  refine GK.sub (lv' := [(0, .ref G.2.2.1), (1, .int x1), (2, .int x2), (3, .int x3)]) [0, 1, 2, 3] rfl ?_
  exact kt_beginsPart_93 C hG hret hXn  _ _ _ _ hw
def wt_beginsPart_61 (k : Int32 → TS → Prop) (x1 : Int32) (x2 : Int32) (x3 : Int32) (s0 : Int32) (u : TS) : Prop := ((20 ≤ (u.2 6) → (wt_beginsPart_85 k x1 x2 x3 u)) ∧ (¬ 20 ≤ (u.2 6) → (((4 < (u.2 45) → (wt_beginsPart_85 k x1 x2 x3 u)) ∧ (¬ 4 < (u.2 45) → (((s0 = 0 → (wt_beginsPart_93 k x1 x2 x3 u)) ∧ (¬ s0 = 0 → (wt_beginsPart_85 k x1 x2 x3 u)))))))))
theorem kt_beginsPart_61 {X : Ev} {G : TG} {k : Int32 → TS → Prop} (C : TC X G cX6_beginsPart 2) (hG : TD G) (hret : (ev_h X).sig.returnType = some .int) (hXn : ev_n X = 5) : ∀ (x1 : Int32) (x2 : Int32) (x3 : Int32) (s0 : Int32) (u : TS), wt_beginsPart_61 k x1 x2 x3 s0 u → GK X (TP G u) 0 0 (tQ X G (tI k)) 61 [(0, .ref G.2.2.1), (1, .int x1), (2, .int x2), (3, .int x3)] [.int s0] := by
  intro x1 x2 x3 s0 u hw
  unfold wt_beginsPart_61 at hw
  refine gk_istore (pc := 61) (lv' := [(4, Value.int s0), (0, Value.ref G.2.2.1), (1, Value.int x1), (2, Value.int x2), (3, Value.int x3)]) C.1 dX6_beginsPart_61 (by rw [hXn]; decide) rfl ?_
  refine gk_aload_n (pc := 63) C.1 1 dX6_beginsPart_63 rfl rfl ?_
  refine tk_getI (pc := 64) C (k := 6) (by decide) (by decide) q2127 rfl dX6_beginsPart_64 ?_
  refine gk_bipush (pc := 67) (v := 20) C.1 dX6_beginsPart_67 (by decide) ?_
  refine gk_icmp_ge (pc := 69) (tgt := 85) C.1 dX6_beginsPart_69 (by decide) (fun c_1 => ?_) (fun c_1 => ?_)
  · replace hw := hw.1 c_1
    refine GK.sub (lv' := [(0, .ref G.2.2.1), (1, .int x1), (2, .int x2), (3, .int x3)]) [1, 2, 3, 4] rfl ?_
    exact kt_beginsPart_85 C hG hret hXn  _ _ _ _ hw
  · replace hw := hw.2 c_1
    refine gk_aload_n (pc := 72) C.1 1 dX6_beginsPart_72 rfl rfl ?_
    refine tk_getI (pc := 73) C (k := 45) (by decide) (by decide) q2166 rfl dX6_beginsPart_73 ?_
    refine gk_iconst (pc := 76) (v := 4) C.1 dX6_beginsPart_76 (by decide) ?_
    refine gk_icmp_gt (pc := 77) (tgt := 85) C.1 dX6_beginsPart_77 (by decide) (fun c_2 => ?_) (fun c_2 => ?_)
    · replace hw := hw.1 c_2
      refine GK.sub (lv' := [(0, .ref G.2.2.1), (1, .int x1), (2, .int x2), (3, .int x3)]) [1, 2, 3, 4] rfl ?_
      exact kt_beginsPart_85 C hG hret hXn  _ _ _ _ hw
    · replace hw := hw.2 c_2
      refine gk_iload (pc := 80) C.1 0 dX6_beginsPart_80 rfl ?_
      refine gk_if_eq (pc := 82) (tgt := 93) C.1 dX6_beginsPart_82 (by decide) (fun c_3 => ?_) (fun c_3 => ?_)
      · replace hw := hw.1 c_3
        refine GK.sub (lv' := [(0, .ref G.2.2.1), (1, .int x1), (2, .int x2), (3, .int x3)]) [1, 2, 3, 4] rfl ?_
        exact kt_beginsPart_93 C hG hret hXn  _ _ _ _ hw
      · replace hw := hw.2 c_3
        refine GK.sub (lv' := [(0, .ref G.2.2.1), (1, .int x1), (2, .int x2), (3, .int x3)]) [1, 2, 3, 4] rfl ?_
        exact kt_beginsPart_85 C hG hret hXn  _ _ _ _ hw
def wt_beginsPart_60 (k : Int32 → TS → Prop) (x1 : Int32) (x2 : Int32) (x3 : Int32) (u : TS) : Prop := wt_beginsPart_61 k x1 x2 x3 0 u
theorem kt_beginsPart_60 {X : Ev} {G : TG} {k : Int32 → TS → Prop} (C : TC X G cX6_beginsPart 2) (hG : TD G) (hret : (ev_h X).sig.returnType = some .int) (hXn : ev_n X = 5) : ∀ (x1 : Int32) (x2 : Int32) (x3 : Int32) (u : TS), wt_beginsPart_60 k x1 x2 x3 u → GK X (TP G u) 0 0 (tQ X G (tI k)) 60 [(0, .ref G.2.2.1), (1, .int x1), (2, .int x2), (3, .int x3)] [] := by
  intro x1 x2 x3 u hw
  unfold wt_beginsPart_60 at hw
  refine gk_iconst (pc := 60) (v := 0) C.1 dX6_beginsPart_60 (by decide) ?_
  refine GK.sub (lv' := [(0, .ref G.2.2.1), (1, .int x1), (2, .int x2), (3, .int x3)]) [0, 1, 2, 3] rfl ?_
  exact kt_beginsPart_61 C hG hret hXn  _ _ _ _ _ hw
def wt_beginsPart_18 (k : Int32 → TS → Prop) (x1 : Int32) (x2 : Int32) (s0 : Int32) (u : TS) : Prop := (((u.2 45) ≤ 0 → (wt_beginsPart_60 k x1 x2 s0 u)) ∧ (¬ (u.2 45) ≤ 0 → (vp_in ((u.2 45) - 1) 100 ∧ (((¬ (u.1 38 ((u.2 45) - 1).toNatClampNeg) = 3 → (wt_beginsPart_60 k x1 x2 s0 u)) ∧ ((u.1 38 ((u.2 45) - 1).toNatClampNeg) = 3 → (vp_in ((u.2 45) - 1) 100 ∧ ((((u.1 40 ((u.2 45) - 1).toNatClampNeg) < 4 → (wt_beginsPart_60 k x1 x2 s0 u)) ∧ (¬ (u.1 40 ((u.2 45) - 1).toNatClampNeg) < 4 → (wt_beginsPart_61 k x1 x2 s0 1 u)))))))))))
theorem kt_beginsPart_18 {X : Ev} {G : TG} {k : Int32 → TS → Prop} (C : TC X G cX6_beginsPart 2) (hG : TD G) (hret : (ev_h X).sig.returnType = some .int) (hXn : ev_n X = 5) : ∀ (x1 : Int32) (x2 : Int32) (s0 : Int32) (u : TS), wt_beginsPart_18 k x1 x2 s0 u → GK X (TP G u) 0 0 (tQ X G (tI k)) 18 [(0, .ref G.2.2.1), (1, .int x1), (2, .int x2)] [.int s0] := by
  intro x1 x2 s0 u hw
  unfold wt_beginsPart_18 at hw
  refine gk_istore_n (pc := 18) (lv' := [(3, Value.int s0), (0, Value.ref G.2.2.1), (1, Value.int x1), (2, Value.int x2)]) C.1 dX6_beginsPart_18 rfl (by rw [hXn]; decide) rfl ?_
  refine gk_aload_n (pc := 19) C.1 1 dX6_beginsPart_19 rfl rfl ?_
  refine tk_getI (pc := 20) C (k := 45) (by decide) (by decide) q2166 rfl dX6_beginsPart_20 ?_
  refine gk_if_le (pc := 23) (tgt := 60) C.1 dX6_beginsPart_23 (by decide) (fun c_1 => ?_) (fun c_1 => ?_)
  · replace hw := hw.1 c_1
    refine GK.sub (lv' := [(0, .ref G.2.2.1), (1, .int x1), (2, .int x2), (3, .int s0)]) [1, 2, 3, 0] rfl ?_
    exact kt_beginsPart_60 C hG hret hXn  _ _ _ _ hw
  · replace hw := hw.2 c_1
    refine gk_aload_n (pc := 26) C.1 1 dX6_beginsPart_26 rfl rfl ?_
    refine tk_getA (pc := 27) C (k := 38) (by decide) (by decide) q2159 rfl dX6_beginsPart_27 ?_
    refine gk_aload_n (pc := 30) C.1 1 dX6_beginsPart_30 rfl rfl ?_
    refine tk_getI (pc := 31) C (k := 45) (by decide) (by decide) q2166 rfl dX6_beginsPart_31 ?_
    refine gk_iconst (pc := 34) (v := 1) C.1 dX6_beginsPart_34 (by decide) ?_
    refine gk_isub (pc := 35) C.1 dX6_beginsPart_35 ?_
    obtain ⟨hi, hw⟩ := hw
    refine tk_ald (pc := 36) C (k := 38) (by decide) hi dX6_beginsPart_36 ?_
    refine gk_iconst (pc := 37) (v := 3) C.1 dX6_beginsPart_37 (by decide) ?_
    refine gk_icmp_ne (pc := 38) (tgt := 60) C.1 dX6_beginsPart_38 (by decide) (fun c_2 => ?_) (fun c_2 => ?_)
    · replace hw := hw.1 c_2
      refine GK.sub (lv' := [(0, .ref G.2.2.1), (1, .int x1), (2, .int x2), (3, .int s0)]) [1, 2, 3, 0] rfl ?_
      exact kt_beginsPart_60 C hG hret hXn  _ _ _ _ hw
    · replace hw := hw.2 c_2
      refine gk_aload_n (pc := 41) C.1 1 dX6_beginsPart_41 rfl rfl ?_
      refine tk_getA (pc := 42) C (k := 40) (by decide) (by decide) q2161 rfl dX6_beginsPart_42 ?_
      refine gk_aload_n (pc := 45) C.1 1 dX6_beginsPart_45 rfl rfl ?_
      refine tk_getI (pc := 46) C (k := 45) (by decide) (by decide) q2166 rfl dX6_beginsPart_46 ?_
      refine gk_iconst (pc := 49) (v := 1) C.1 dX6_beginsPart_49 (by decide) ?_
      refine gk_isub (pc := 50) C.1 dX6_beginsPart_50 ?_
      obtain ⟨hi, hw⟩ := hw
      refine tk_ald (pc := 51) C (k := 40) (by decide) hi dX6_beginsPart_51 ?_
      refine gk_iconst (pc := 52) (v := 4) C.1 dX6_beginsPart_52 (by decide) ?_
      refine gk_icmp_lt (pc := 53) (tgt := 60) C.1 dX6_beginsPart_53 (by decide) (fun c_3 => ?_) (fun c_3 => ?_)
      · replace hw := hw.1 c_3
        refine GK.sub (lv' := [(0, .ref G.2.2.1), (1, .int x1), (2, .int x2), (3, .int s0)]) [1, 2, 3, 0] rfl ?_
        exact kt_beginsPart_60 C hG hret hXn  _ _ _ _ hw
      · replace hw := hw.2 c_3
        refine gk_iconst (pc := 56) (v := 1) C.1 dX6_beginsPart_56 (by decide) ?_
        refine gk_goto (pc := 57) (tgt := 61) C.1 dX6_beginsPart_57 (by decide) ?_
        refine GK.sub (lv' := [(0, .ref G.2.2.1), (1, .int x1), (2, .int x2), (3, .int s0)]) [1, 2, 3, 0] rfl ?_
        exact kt_beginsPart_61 C hG hret hXn  _ _ _ _ _ hw
def wt_beginsPart (k : Int32 → TS → Prop) (x1 : Int32) (x2 : Int32) (u : TS) : Prop := ((20 ≤ (u.2 6) → (wt_beginsPart_18 k x1 x2 20 u)) ∧ (¬ 20 ≤ (u.2 6) → (wt_beginsPart_18 k x1 x2 (u.2 6) u)))
theorem wk_beginsPart (l : Launch) {G : TG} (hG : TD G) {k : Int32 → TS → Prop} {x1 : Int32} {x2 : Int32} {u : TS} (hw : wt_beginsPart k x1 x2 u) : TMet l yX6_beginsPart cX6_beginsPart 5 (some .int) 2 G [.ref G.2.2.1, .int x1, .int x2] u (tI k) := by
  refine tk_met hG rfl (Nat.le_of_ble_eq_true rfl) (fun X hXl hXn hret C => ?_)
  subst hXl
  unfold wt_beginsPart at hw
  refine GK.sub (lv' := [(0, .ref G.2.2.1), (1, .int x1), (2, .int x2)]) [0, 1, 2] rfl ?_
  refine gk_aload_n (pc := 0) C.1 0 dX6_beginsPart_0 rfl rfl ?_
  refine tk_getI (pc := 1) C (k := 6) (by decide) (by decide) q2127 rfl dX6_beginsPart_1 ?_
  refine gk_bipush (pc := 4) (v := 20) C.1 dX6_beginsPart_4 (by decide) ?_
  refine gk_icmp_ge (pc := 6) (tgt := 16) C.1 dX6_beginsPart_6 (by decide) (fun c_1 => ?_) (fun c_1 => ?_)
  · replace hw := hw.1 c_1
    refine gk_bipush (pc := 16) (v := 20) C.1 dX6_beginsPart_16 (by decide) ?_
    refine GK.sub (lv' := [(0, .ref G.2.2.1), (1, .int x1), (2, .int x2)]) [0, 1, 2] rfl ?_
    exact kt_beginsPart_18 C hG hret hXn  _ _ _ _ hw
  · replace hw := hw.2 c_1
    refine gk_aload_n (pc := 9) C.1 0 dX6_beginsPart_9 rfl rfl ?_
    refine tk_getI (pc := 10) C (k := 6) (by decide) (by decide) q2127 rfl dX6_beginsPart_10 ?_
    refine gk_goto (pc := 13) (tgt := 18) C.1 dX6_beginsPart_13 (by decide) ?_
    refine GK.sub (lv' := [(0, .ref G.2.2.1), (1, .int x1), (2, .int x2)]) [0, 1, 2] rfl ?_
    exact kt_beginsPart_18 C hG hret hXn  _ _ _ _ hw
/-! bound(III)I -/
def wt_bound (k : Int32 → TS → Prop) (x0 : Int32) (x1 : Int32) (x2 : Int32) (u : TS) : Prop := ((x1 ≤ x0 → (((x0 ≤ x2 → (k 0 u)) ∧ (¬ x0 ≤ x2 → (k (-6) u))))) ∧ (¬ x1 ≤ x0 → (k (-4) u)))
theorem wk_bound (l : Launch) {G : TG} (hG : TD G) {k : Int32 → TS → Prop} {x0 : Int32} {x1 : Int32} {x2 : Int32} {u : TS} (hw : wt_bound k x0 x1 x2 u) : TMet l yX6_bound cX6_bound 3 (some .int) 1 G [.int x0, .int x1, .int x2] u (tI k) := by
  refine tk_met hG rfl (Nat.le_of_ble_eq_true rfl) (fun X hXl hXn hret C => ?_)
  subst hXl
  unfold wt_bound at hw
  refine GK.sub (lv' := [(0, .int x0), (1, .int x1), (2, .int x2)]) [0, 1, 2] rfl ?_
  refine gk_iload_n (pc := 0) C.1 0 dX6_bound_0 rfl rfl ?_
  refine gk_iload_n (pc := 1) C.1 1 dX6_bound_1 rfl rfl ?_
  refine gk_icmp_ge (pc := 2) (tgt := 10) C.1 dX6_bound_2 (by decide) (fun c_1 => ?_) (fun c_1 => ?_)
  · replace hw := hw.1 c_1
    refine gk_iload_n (pc := 10) C.1 0 dX6_bound_10 rfl rfl ?_
    refine gk_iload_n (pc := 11) C.1 2 dX6_bound_11 rfl rfl ?_
    refine gk_icmp_le (pc := 12) (tgt := 20) C.1 dX6_bound_12 (by decide) (fun c_2 => ?_) (fun c_2 => ?_)
    · replace hw := hw.1 c_2
      refine gk_iconst (pc := 20) (v := 0) C.1 dX6_bound_20 (by decide) ?_
      exact tk_iret (pc := 21) C hret dX6_bound_21 hw
    · replace hw := hw.2 c_2
      refine gk_bipush (pc := 15) (v := (-6)) C.1 dX6_bound_15 (by decide) ?_
      refine gk_goto (pc := 17) (tgt := 21) C.1 dX6_bound_17 (by decide) ?_
      exact tk_iret (pc := 21) C hret dX6_bound_21 hw
  · replace hw := hw.2 c_1
    refine gk_bipush (pc := 5) (v := (-4)) C.1 dX6_bound_5 (by decide) ?_
    refine gk_goto (pc := 7) (tgt := 21) C.1 dX6_bound_7 (by decide) ?_
    exact tk_iret (pc := 21) C hret dX6_bound_21 hw
/-! isBelow(II)Z -/
def wt_isBelow_2 (k : Int32 → TS → Prop) : Nat → Int32 → Int32 → TS → Prop
  | 0 => fun _ _ _ => False
  | n + 1 => fun x1 x2 u => ((x2 ≤ x1 → (((¬ x2 = x1 → (k 0 u)) ∧ (x2 = x1 → (k 1 u))))) ∧ (¬ x2 ≤ x1 → (∀ x_3 : Int32, x_3 = x2 / 10 → (wt_isBelow_2 k n x1 x_3 u))))
theorem kt_isBelow_2 {X : Ev} {G : TG} {k : Int32 → TS → Prop} (C : TC X G cX6_isBelow 1) (hG : TD G) (hret : (ev_h X).sig.returnType = some .boolean) (hXn : ev_n X = 3) : ∀ (n : Nat) (x1 : Int32) (x2 : Int32) (u : TS), wt_isBelow_2 k n x1 x2 u → GK X (TP G u) 0 0 (tQ X G (tI k)) 2 [(1, .int x1), (2, .int x2)] [] := by
  intro n
  induction n with
  | zero => intro x1 x2 u hw; exact hw.elim
  | succ n ih =>
  intro x1 x2 u hw
  unfold wt_isBelow_2 at hw
  refine gk_iload_n (pc := 2) C.1 1 dX6_isBelow_2 rfl rfl ?_
  refine gk_iload_n (pc := 3) C.1 0 dX6_isBelow_3 rfl rfl ?_
  refine gk_icmp_le (pc := 4) (tgt := 15) C.1 dX6_isBelow_4 (by decide) (fun c_1 => ?_) (fun c_1 => ?_)
  · replace hw := hw.1 c_1
    refine gk_iload_n (pc := 15) C.1 1 dX6_isBelow_15 rfl rfl ?_
    refine gk_iload_n (pc := 16) C.1 0 dX6_isBelow_16 rfl rfl ?_
    refine gk_icmp_ne (pc := 17) (tgt := 24) C.1 dX6_isBelow_17 (by decide) (fun c_2 => ?_) (fun c_2 => ?_)
    · replace hw := hw.1 c_2
      refine gk_iconst (pc := 24) (v := 0) C.1 dX6_isBelow_24 (by decide) ?_
      exact tk_zret (pc := 25) C hret dX6_isBelow_25 bz0 hw
    · replace hw := hw.2 c_2
      refine gk_iconst (pc := 20) (v := 1) C.1 dX6_isBelow_20 (by decide) ?_
      refine gk_goto (pc := 21) (tgt := 25) C.1 dX6_isBelow_21 (by decide) ?_
      exact tk_zret (pc := 25) C hret dX6_isBelow_25 bz1 hw
  · replace hw := hw.2 c_1
    refine gk_iload_n (pc := 7) C.1 1 dX6_isBelow_7 rfl rfl ?_
    refine gk_bipush (pc := 8) (v := 10) C.1 dX6_isBelow_8 (by decide) ?_
    refine gk_idiv (pc := 10) C.1 dX6_isBelow_10 (by decide) ?_
    obtain ⟨x_3, ex_3⟩ : ∃ z : Int32, z = x2 / 10 := ⟨_, rfl⟩
    rw [← ex_3]
    replace hw := hw x_3 ex_3
    refine gk_istore_n (pc := 11) (lv' := [(2, Value.int x_3), (1, Value.int x1)]) C.1 dX6_isBelow_11 rfl (by rw [hXn]; decide) rfl ?_
    refine gk_goto (pc := 12) (tgt := 2) C.1 dX6_isBelow_12 (by decide) ?_
    refine GK.sub (lv' := [(1, .int x1), (2, .int x_3)]) [1, 0] rfl ?_
    exact ih _ _ _ hw
def wt_isBelow (k : Int32 → TS → Prop) (x0 : Int32) (x1 : Int32) (u : TS) : Prop := ∃ fu : Nat, wt_isBelow_2 k fu x1 x0 u
theorem wk_isBelow (l : Launch) {G : TG} (hG : TD G) {k : Int32 → TS → Prop} {x0 : Int32} {x1 : Int32} {u : TS} (hw : wt_isBelow k x0 x1 u) : TMet l yX6_isBelow cX6_isBelow 3 (some .boolean) 1 G [.int x0, .int x1] u (tI k) := by
  refine tk_met hG rfl (Nat.le_of_ble_eq_true rfl) (fun X hXl hXn hret C => ?_)
  subst hXl
  unfold wt_isBelow at hw
  refine GK.sub (lv' := [(0, .int x0), (1, .int x1)]) [0, 1] rfl ?_
  refine gk_iload_n (pc := 0) C.1 0 dX6_isBelow_0 rfl rfl ?_
  refine gk_istore_n (pc := 1) (lv' := [(2, Value.int x0), (0, Value.int x0), (1, Value.int x1)]) C.1 dX6_isBelow_1 rfl (by rw [hXn]; decide) rfl ?_
  refine GK.sub (lv' := [(1, .int x1), (2, .int x0)]) [2, 0] rfl ?_
  obtain ⟨n9, hw⟩ := hw
  exact kt_isBelow_2 C hG hret hXn  n9 _ _ _ hw
/-! childOf(II)I -/
def wt_childOf_7 (k : Int32 → TS → Prop) : Nat → Int32 → Int32 → Int32 → TS → Prop
  | 0 => fun _ _ _ _ => False
  | n + 1 => fun x2 x3 x4 u => ((x2 ≤ x4 → (k x3 u)) ∧ (¬ x2 ≤ x4 → (vp_in x3 21 ∧ (∀ x_2 : Int32, x_2 = x3 + (u.1 4 x3.toNatClampNeg) → (∀ x_3 : Int32, x_3 = x4 + 1 → (wt_childOf_7 k n x2 x_2 x_3 u))))))
theorem kt_childOf_7 {X : Ev} {G : TG} {k : Int32 → TS → Prop} (C : TC X G cX6_childOf 1) (hG : TD G) (hret : (ev_h X).sig.returnType = some .int) (hXn : ev_n X = 5) : ∀ (n : Nat) (x2 : Int32) (x3 : Int32) (x4 : Int32) (u : TS), wt_childOf_7 k n x2 x3 x4 u → GK X (TP G u) 0 0 (tQ X G (tI k)) 7 [(0, .ref G.2.2.1), (2, .int x2), (3, .int x3), (4, .int x4)] [] := by
  intro n
  induction n with
  | zero => intro x2 x3 x4 u hw; exact hw.elim
  | succ n ih =>
  intro x2 x3 x4 u hw
  unfold wt_childOf_7 at hw
  refine gk_iload (pc := 7) C.1 3 dX6_childOf_7 rfl ?_
  refine gk_iload_n (pc := 9) C.1 1 dX6_childOf_9 rfl rfl ?_
  refine gk_icmp_ge (pc := 10) (tgt := 28) C.1 dX6_childOf_10 (by decide) (fun c_1 => ?_) (fun c_1 => ?_)
  · replace hw := hw.1 c_1
    refine gk_iload_n (pc := 28) C.1 2 dX6_childOf_28 rfl rfl ?_
    exact tk_iret (pc := 29) C hret dX6_childOf_29 hw
  · replace hw := hw.2 c_1
    refine gk_iload_n (pc := 13) C.1 2 dX6_childOf_13 rfl rfl ?_
    refine gk_aload_n (pc := 14) C.1 0 dX6_childOf_14 rfl rfl ?_
    refine tk_getA (pc := 15) C (k := 4) (by decide) (by decide) q2125 rfl dX6_childOf_15 ?_
    refine gk_iload_n (pc := 18) C.1 2 dX6_childOf_18 rfl rfl ?_
    obtain ⟨hi, hw⟩ := hw
    refine tk_ald (pc := 19) C (k := 4) (by decide) hi dX6_childOf_19 ?_
    refine gk_iadd (pc := 20) C.1 dX6_childOf_20 ?_
    obtain ⟨x_2, ex_2⟩ : ∃ z : Int32, z = x3 + (u.1 4 x3.toNatClampNeg) := ⟨_, rfl⟩
    rw [← ex_2]
    replace hw := hw x_2 ex_2
    refine gk_istore_n (pc := 21) (lv' := [(3, Value.int x_2), (0, Value.ref G.2.2.1), (2, Value.int x2), (4, Value.int x4)]) C.1 dX6_childOf_21 rfl (by rw [hXn]; decide) rfl ?_
    obtain ⟨x_3, ex_3⟩ : ∃ z : Int32, z = x4 + 1 := ⟨_, rfl⟩
    replace hw := hw x_3 ex_3
    refine gk_iinc (pc := 22) (v := x_3) (lv' := [(4, Value.int x_3), (3, Value.int x_2), (0, Value.ref G.2.2.1), (2, Value.int x2)]) C.1 3 dX6_childOf_22 rfl (by rw [ex_3]; rfl) (by rw [hXn]; decide) rfl ?_
    refine gk_goto (pc := 25) (tgt := 7) C.1 dX6_childOf_25 (by decide) ?_
    refine GK.sub (lv' := [(0, .ref G.2.2.1), (2, .int x2), (3, .int x_2), (4, .int x_3)]) [2, 3, 1, 0] rfl ?_
    exact ih _ _ _ _ hw
def wt_childOf (k : Int32 → TS → Prop) (x1 : Int32) (x2 : Int32) (u : TS) : Prop := ∀ x_1 : Int32, x_1 = x1 + 1 → (∃ fu : Nat, wt_childOf_7 k fu x2 x_1 0 u)
theorem wk_childOf (l : Launch) {G : TG} (hG : TD G) {k : Int32 → TS → Prop} {x1 : Int32} {x2 : Int32} {u : TS} (hw : wt_childOf k x1 x2 u) : TMet l yX6_childOf cX6_childOf 5 (some .int) 1 G [.ref G.2.2.1, .int x1, .int x2] u (tI k) := by
  refine tk_met hG rfl (Nat.le_of_ble_eq_true rfl) (fun X hXl hXn hret C => ?_)
  subst hXl
  unfold wt_childOf at hw
  refine GK.sub (lv' := [(0, .ref G.2.2.1), (1, .int x1), (2, .int x2)]) [0, 1, 2] rfl ?_
  refine gk_iload_n (pc := 0) C.1 1 dX6_childOf_0 rfl rfl ?_
  refine gk_iconst (pc := 1) (v := 1) C.1 dX6_childOf_1 (by decide) ?_
  refine gk_iadd (pc := 2) C.1 dX6_childOf_2 ?_
  obtain ⟨x_1, ex_1⟩ : ∃ z : Int32, z = x1 + 1 := ⟨_, rfl⟩
  rw [← ex_1]
  replace hw := hw x_1 ex_1
  refine gk_istore_n (pc := 3) (lv' := [(3, Value.int x_1), (0, Value.ref G.2.2.1), (1, Value.int x1), (2, Value.int x2)]) C.1 dX6_childOf_3 rfl (by rw [hXn]; decide) rfl ?_
  refine gk_iconst (pc := 4) (v := 0) C.1 dX6_childOf_4 (by decide) ?_
  refine gk_istore (pc := 5) (lv' := [(4, Value.int 0), (3, Value.int x_1), (0, Value.ref G.2.2.1), (1, Value.int x1), (2, Value.int x2)]) C.1 dX6_childOf_5 (by rw [hXn]; decide) rfl ?_
  refine GK.sub (lv' := [(0, .ref G.2.2.1), (2, .int x2), (3, .int x_1), (4, .int 0)]) [2, 4, 1, 0] rfl ?_
  obtain ⟨n9, hw⟩ := hw
  exact kt_childOf_7 C hG hret hXn  n9 _ _ _ _ hw
/-! finds(II)V -/
def wt_finds (k : TS → Prop) (x1 : Int32) (x2 : Int32) (u : TS) : Prop := vp_in (u.2 33) 16384 ∧ (∀ u_1 : TS, u_1 = tpA u 24 (u.2 33).toNatClampNeg x1 → (vp_in (u_1.2 33) 16384 ∧ (∀ u_2 : TS, u_2 = tpA u_1 25 (u_1.2 33).toNatClampNeg x2 → (∀ u_3 : TS, u_3 = tpI u_2 33 ((u_2.2 33) + 1) → (k u_3)))))
theorem wk_finds (l : Launch) {G : TG} (hG : TD G) {k : TS → Prop} {x1 : Int32} {x2 : Int32} {u : TS} (hw : wt_finds k x1 x2 u) : TMet l yX6_finds cX6_finds 3 (none) 1 G [.ref G.2.2.1, .int x1, .int x2] u (tV k) := by
  refine tk_met hG rfl (Nat.le_of_ble_eq_true rfl) (fun X hXl hXn hret C => ?_)
  subst hXl
  unfold wt_finds at hw
  refine GK.sub (lv' := [(0, .ref G.2.2.1), (1, .int x1), (2, .int x2)]) [0, 1, 2] rfl ?_
  refine gk_aload_n (pc := 0) C.1 0 dX6_finds_0 rfl rfl ?_
  refine tk_getA (pc := 1) C (k := 24) (by decide) (by decide) q2145 rfl dX6_finds_1 ?_
  refine gk_aload_n (pc := 4) C.1 0 dX6_finds_4 rfl rfl ?_
  refine tk_getI (pc := 5) C (k := 33) (by decide) (by decide) q2154 rfl dX6_finds_5 ?_
  refine gk_iload_n (pc := 8) C.1 1 dX6_finds_8 rfl rfl ?_
  obtain ⟨hi, hw⟩ := hw
  refine tk_ast (pc := 9) C (k := 24) (by decide) hi dX6_finds_9 (fun u_1 eu_1 => ?_)
  replace hw := hw u_1 eu_1
  refine gk_aload_n (pc := 10) C.1 0 dX6_finds_10 rfl rfl ?_
  refine tk_getA (pc := 11) C (k := 25) (by decide) (by decide) q2146 rfl dX6_finds_11 ?_
  refine gk_aload_n (pc := 14) C.1 0 dX6_finds_14 rfl rfl ?_
  refine tk_getI (pc := 15) C (k := 33) (by decide) (by decide) q2154 rfl dX6_finds_15 ?_
  refine gk_iload_n (pc := 18) C.1 2 dX6_finds_18 rfl rfl ?_
  obtain ⟨hi, hw⟩ := hw
  refine tk_ast (pc := 19) C (k := 25) (by decide) hi dX6_finds_19 (fun u_2 eu_2 => ?_)
  replace hw := hw u_2 eu_2
  refine gk_aload_n (pc := 20) C.1 0 dX6_finds_20 rfl rfl ?_
  refine gk_dup (pc := 21) C.1 dX6_finds_21 rfl ?_
  refine tk_getI (pc := 22) C (k := 33) (by decide) (by decide) q2154 rfl dX6_finds_22 ?_
  refine gk_iconst (pc := 25) (v := 1) C.1 dX6_finds_25 (by decide) ?_
  refine gk_iadd (pc := 26) C.1 dX6_finds_26 ?_
  refine tk_putI (pc := 27) C (k := 33) (by decide) (by decide) q2154 rfl rfl (ty := .int) rfl rfl rfl dX6_finds_27 (fun u_3 eu_3 => ?_)
  replace hw := hw u_3 eu_3
  exact tk_vret (pc := 30) C hret dX6_finds_30 hw
/-! isAgain(II)Z -/
def wt_isAgain_2 (k : Int32 → TS → Prop) : Nat → Int32 → Int32 → Int32 → TS → Prop
  | 0 => fun _ _ _ _ => False
  | n + 1 => fun x1 x2 x3 u => ((x2 ≤ x3 → (k 0 u)) ∧ (¬ x2 ≤ x3 → (wt_childOf (fun r_3 u_2 => wt_childOf (fun r_5 u_4 => wt_areSame (fun r_7 u_6 => ((r_7 = 0 → (∀ x_9 : Int32, x_9 = x3 + 1 → (wt_isAgain_2 k n x1 x2 x_9 u_6))) ∧ (¬ r_7 = 0 → (k 1 u_6)))) r_3 r_5 u_4) x1 x2 u_2) x1 x3 u)))
theorem kt_isAgain_2 {X : Ev} {G : TG} {k : Int32 → TS → Prop} (C : TC X G cX6_isAgain 4) (hG : TD G) (hret : (ev_h X).sig.returnType = some .boolean) (hXn : ev_n X = 4) : ∀ (n : Nat) (x1 : Int32) (x2 : Int32) (x3 : Int32) (u : TS), wt_isAgain_2 k n x1 x2 x3 u → GK X (TP G u) 0 0 (tQ X G (tI k)) 2 [(0, .ref G.2.2.1), (1, .int x1), (2, .int x2), (3, .int x3)] [] := by
  intro n
  induction n with
  | zero => intro x1 x2 x3 u hw; exact hw.elim
  | succ n ih =>
  intro x1 x2 x3 u hw
  unfold wt_isAgain_2 at hw
  refine gk_iload_n (pc := 2) C.1 3 dX6_isAgain_2 rfl rfl ?_
  refine gk_iload_n (pc := 3) C.1 2 dX6_isAgain_3 rfl rfl ?_
  refine gk_icmp_ge (pc := 4) (tgt := 34) C.1 dX6_isAgain_4 (by decide) (fun c_1 => ?_) (fun c_1 => ?_)
  · replace hw := hw.1 c_1
    refine gk_iconst (pc := 34) (v := 0) C.1 dX6_isAgain_34 (by decide) ?_
    exact tk_zret (pc := 35) C hret dX6_isAgain_35 bz0 hw
  · replace hw := hw.2 c_1
    refine gk_aload_n (pc := 7) C.1 0 dX6_isAgain_7 rfl rfl ?_
    refine gk_aload_n (pc := 8) C.1 0 dX6_isAgain_8 rfl rfl ?_
    refine gk_iload_n (pc := 9) C.1 1 dX6_isAgain_9 rfl rfl ?_
    refine gk_iload_n (pc := 10) C.1 3 dX6_isAgain_10 rfl rfl ?_
    refine tk_callV (pc := 11) (y := yX6_childOf) (n := 2) (As := [.int x1, .int x3]) (rest := [.ref G.2.2.1]) C (wk_childOf (ev_l X) hG hw) q2505 q2507 qs109 q2508 ⟨rfl, by decide +kernel⟩ ⟨by decide, by decide⟩ rfl rfl (Nat.le_of_ble_eq_true rfl) dX6_isAgain_11 (fun v9 u_2 hp => ?_)
    obtain ⟨r_3, rfl, hw⟩ := hp
    refine GK.at (p2 := 14) rfl ?_
    refine gk_aload_n (pc := 14) C.1 0 dX6_isAgain_14 rfl rfl ?_
    refine gk_iload_n (pc := 15) C.1 1 dX6_isAgain_15 rfl rfl ?_
    refine gk_iload_n (pc := 16) C.1 2 dX6_isAgain_16 rfl rfl ?_
    refine tk_callV (pc := 17) (y := yX6_childOf) (n := 2) (As := [.int x1, .int x2]) (rest := [.int r_3, .ref G.2.2.1]) C (wk_childOf (ev_l X) hG hw) q2505 q2507 qs109 q2508 ⟨rfl, by decide +kernel⟩ ⟨by decide, by decide⟩ rfl rfl (Nat.le_of_ble_eq_true rfl) dX6_isAgain_17 (fun v9 u_4 hp => ?_)
    obtain ⟨r_5, rfl, hw⟩ := hp
    refine GK.at (p2 := 20) rfl ?_
    refine tk_callV (pc := 20) (y := yX6_areSame) (n := 2) (As := [.int r_3, .int r_5]) (rest := []) C (wk_areSame (ev_l X) hG hw) q2532 q2534 qs115 q2535 ⟨rfl, by decide +kernel⟩ ⟨by decide, by decide⟩ rfl rfl (Nat.le_of_ble_eq_true rfl) dX6_isAgain_20 (fun v9 u_6 hp => ?_)
    obtain ⟨r_7, rfl, hw⟩ := hp
    refine GK.at (p2 := 23) rfl ?_
    refine gk_if_eq (pc := 23) (tgt := 28) C.1 dX6_isAgain_23 (by decide) (fun c_8 => ?_) (fun c_8 => ?_)
    · replace hw := hw.1 c_8
      obtain ⟨x_9, ex_9⟩ : ∃ z : Int32, z = x3 + 1 := ⟨_, rfl⟩
      replace hw := hw x_9 ex_9
      refine gk_iinc (pc := 28) (v := x_9) (lv' := [(3, Value.int x_9), (0, Value.ref G.2.2.1), (1, Value.int x1), (2, Value.int x2)]) C.1 3 dX6_isAgain_28 rfl (by rw [ex_9]; rfl) (by rw [hXn]; decide) rfl ?_
      refine gk_goto (pc := 31) (tgt := 2) C.1 dX6_isAgain_31 (by decide) ?_
      refine GK.sub (lv' := [(0, .ref G.2.2.1), (1, .int x1), (2, .int x2), (3, .int x_9)]) [1, 2, 3, 0] rfl ?_
      exact ih _ _ _ _ hw
    · replace hw := hw.2 c_8
      refine gk_iconst (pc := 26) (v := 1) C.1 dX6_isAgain_26 (by decide) ?_
      exact tk_zret (pc := 27) C hret dX6_isAgain_27 bz1 hw
def wt_isAgain (k : Int32 → TS → Prop) (x1 : Int32) (x2 : Int32) (u : TS) : Prop := ∃ fu : Nat, wt_isAgain_2 k fu x1 x2 0 u
theorem wk_isAgain (l : Launch) {G : TG} (hG : TD G) {k : Int32 → TS → Prop} {x1 : Int32} {x2 : Int32} {u : TS} (hw : wt_isAgain k x1 x2 u) : TMet l yX6_isAgain cX6_isAgain 4 (some .boolean) 4 G [.ref G.2.2.1, .int x1, .int x2] u (tI k) := by
  refine tk_met hG rfl (Nat.le_of_ble_eq_true rfl) (fun X hXl hXn hret C => ?_)
  subst hXl
  unfold wt_isAgain at hw
  refine GK.sub (lv' := [(0, .ref G.2.2.1), (1, .int x1), (2, .int x2)]) [0, 1, 2] rfl ?_
  refine gk_iconst (pc := 0) (v := 0) C.1 dX6_isAgain_0 (by decide) ?_
  refine gk_istore_n (pc := 1) (lv' := [(3, Value.int 0), (0, Value.ref G.2.2.1), (1, Value.int x1), (2, Value.int x2)]) C.1 dX6_isAgain_1 rfl (by rw [hXn]; decide) rfl ?_
  refine GK.sub (lv' := [(0, .ref G.2.2.1), (1, .int x1), (2, .int x2), (3, .int 0)]) [1, 2, 3, 0] rfl ?_
  obtain ⟨n9, hw⟩ := hw
  exact kt_isAgain_2 C hG hret hXn  n9 _ _ _ _ hw
/-! looks(II)V -/
def wt_looks (k : TS → Prop) (x1 : Int32) (x2 : Int32) (u : TS) : Prop := vp_in (u.2 35) 400 ∧ (∀ u_1 : TS, u_1 = tpA u 26 (u.2 35).toNatClampNeg x1 → (vp_in (u_1.2 35) 400 ∧ (∀ u_2 : TS, u_2 = tpA u_1 27 (u_1.2 35).toNatClampNeg x2 → (vp_in (u_2.2 35) 400 ∧ (∀ u_3 : TS, u_3 = tpA u_2 28 (u_2.2 35).toNatClampNeg 0 → (∀ u_4 : TS, u_4 = tpI u_3 35 ((u_3.2 35) + 1) → (k u_4)))))))
theorem wk_looks (l : Launch) {G : TG} (hG : TD G) {k : TS → Prop} {x1 : Int32} {x2 : Int32} {u : TS} (hw : wt_looks k x1 x2 u) : TMet l yX6_looks cX6_looks 3 (none) 1 G [.ref G.2.2.1, .int x1, .int x2] u (tV k) := by
  refine tk_met hG rfl (Nat.le_of_ble_eq_true rfl) (fun X hXl hXn hret C => ?_)
  subst hXl
  unfold wt_looks at hw
  refine GK.sub (lv' := [(0, .ref G.2.2.1), (1, .int x1), (2, .int x2)]) [0, 1, 2] rfl ?_
  refine gk_aload_n (pc := 0) C.1 0 dX6_looks_0 rfl rfl ?_
  refine tk_getA (pc := 1) C (k := 26) (by decide) (by decide) q2147 rfl dX6_looks_1 ?_
  refine gk_aload_n (pc := 4) C.1 0 dX6_looks_4 rfl rfl ?_
  refine tk_getI (pc := 5) C (k := 35) (by decide) (by decide) q2156 rfl dX6_looks_5 ?_
  refine gk_iload_n (pc := 8) C.1 1 dX6_looks_8 rfl rfl ?_
  obtain ⟨hi, hw⟩ := hw
  refine tk_ast (pc := 9) C (k := 26) (by decide) hi dX6_looks_9 (fun u_1 eu_1 => ?_)
  replace hw := hw u_1 eu_1
  refine gk_aload_n (pc := 10) C.1 0 dX6_looks_10 rfl rfl ?_
  refine tk_getA (pc := 11) C (k := 27) (by decide) (by decide) q2148 rfl dX6_looks_11 ?_
  refine gk_aload_n (pc := 14) C.1 0 dX6_looks_14 rfl rfl ?_
  refine tk_getI (pc := 15) C (k := 35) (by decide) (by decide) q2156 rfl dX6_looks_15 ?_
  refine gk_iload_n (pc := 18) C.1 2 dX6_looks_18 rfl rfl ?_
  obtain ⟨hi, hw⟩ := hw
  refine tk_ast (pc := 19) C (k := 27) (by decide) hi dX6_looks_19 (fun u_2 eu_2 => ?_)
  replace hw := hw u_2 eu_2
  refine gk_aload_n (pc := 20) C.1 0 dX6_looks_20 rfl rfl ?_
  refine tk_getA (pc := 21) C (k := 28) (by decide) (by decide) q2149 rfl dX6_looks_21 ?_
  refine gk_aload_n (pc := 24) C.1 0 dX6_looks_24 rfl rfl ?_
  refine tk_getI (pc := 25) C (k := 35) (by decide) (by decide) q2156 rfl dX6_looks_25 ?_
  refine gk_iconst (pc := 28) (v := 0) C.1 dX6_looks_28 (by decide) ?_
  obtain ⟨hi, hw⟩ := hw
  refine tk_ast (pc := 29) C (k := 28) (by decide) hi dX6_looks_29 (fun u_3 eu_3 => ?_)
  replace hw := hw u_3 eu_3
  refine gk_aload_n (pc := 30) C.1 0 dX6_looks_30 rfl rfl ?_
  refine gk_dup (pc := 31) C.1 dX6_looks_31 rfl ?_
  refine tk_getI (pc := 32) C (k := 35) (by decide) (by decide) q2156 rfl dX6_looks_32 ?_
  refine gk_iconst (pc := 35) (v := 1) C.1 dX6_looks_35 (by decide) ?_
  refine gk_iadd (pc := 36) C.1 dX6_looks_36 ?_
  refine tk_putI (pc := 37) C (k := 35) (by decide) (by decide) q2156 rfl rfl (ty := .int) rfl rfl rfl dX6_looks_37 (fun u_4 eu_4 => ?_)
  replace hw := hw u_4 eu_4
  exact tk_vret (pc := 40) C hret dX6_looks_40 hw
/-! findsAgain(II)V -/
def wt_findsAgain_138 (k : TS → Prop) (J92 : Int32 → Int32 → TS → Prop) (x2 : Int32) (x3 : Int32) (u : TS) : Prop := ∀ x_1 : Int32, x_1 = x3 + 1 → (J92 x2 x_1 u)
theorem kt_findsAgain_138 {X : Ev} {G : TG} {k : TS → Prop} {J92 : Int32 → Int32 → TS → Prop} (C : TC X G cX6_findsAgain 5) (hG : TD G) (hret : (ev_h X).sig.returnType = none) (hXn : ev_n X = 4) (hJ92 : ∀ (x2 : Int32) (x3 : Int32) (u : TS), J92 x2 x3 u → GK X (TP G u) 0 0 (tQ X G (tV k)) 92 [(0, .ref G.2.2.1), (2, .int x2), (3, .int x3)] []) : ∀ (x2 : Int32) (x3 : Int32) (u : TS), wt_findsAgain_138 k J92 x2 x3 u → GK X (TP G u) 0 0 (tQ X G (tV k)) 138 [(0, .ref G.2.2.1), (2, .int x2), (3, .int x3)] [] := by
  intro x2 x3 u hw
  unfold wt_findsAgain_138 at hw
  obtain ⟨x_1, ex_1⟩ : ∃ z : Int32, z = x3 + 1 := ⟨_, rfl⟩
  replace hw := hw x_1 ex_1
  refine gk_iinc (pc := 138) (v := x_1) (lv' := [(3, Value.int x_1), (0, Value.ref G.2.2.1), (2, Value.int x2)]) C.1 2 dX6_findsAgain_138 rfl (by rw [ex_1]; rfl) (by rw [hXn]; decide) rfl ?_
  refine gk_goto (pc := 141) (tgt := 92) C.1 dX6_findsAgain_141 (by decide) ?_
  refine GK.sub (lv' := [(0, .ref G.2.2.1), (2, .int x2), (3, .int x_1)]) [1, 2, 0] rfl ?_
  exact hJ92 _ _ _ hw
def wt_findsAgain_92 (k : TS → Prop) : Nat → Int32 → Int32 → TS → Prop
  | 0 => fun _ _ _ => False
  | n + 1 => fun x2 x3 u => vp_in x2 21 ∧ ((((u.1 2 x2.toNatClampNeg) ≤ x3 → (k u)) ∧ (¬ (u.1 2 x2.toNatClampNeg) ≤ x3 → (vp_in x2 21 ∧ (((¬ (u.1 1 x2.toNatClampNeg) = 3 → (k u)) ∧ ((u.1 1 x2.toNatClampNeg) = 3 → (wt_isAgain (fun r_4 u_3 => ((r_4 = 0 → (wt_findsAgain_138 k (fun yx2 yx3 yu => wt_findsAgain_92 k n yx2 yx3 yu) x2 x3 u_3)) ∧ (¬ r_4 = 0 → (wt_childOf (fun r_7 u_6 => vp_in r_7 21 ∧ (wt_finds (fun u_8 => wt_findsAgain_138 k (fun yx2 yx3 yu => wt_findsAgain_92 k n yx2 yx3 yu) x2 x3 u_8) (u_6.1 5 r_7.toNatClampNeg) 12 u_6)) x2 x3 u_3)))) x2 x3 u))))))))
theorem kt_findsAgain_92 {X : Ev} {G : TG} {k : TS → Prop} (C : TC X G cX6_findsAgain 5) (hG : TD G) (hret : (ev_h X).sig.returnType = none) (hXn : ev_n X = 4) : ∀ (n : Nat) (x2 : Int32) (x3 : Int32) (u : TS), wt_findsAgain_92 k n x2 x3 u → GK X (TP G u) 0 0 (tQ X G (tV k)) 92 [(0, .ref G.2.2.1), (2, .int x2), (3, .int x3)] [] := by
  intro n
  induction n with
  | zero => intro x2 x3 u hw; exact hw.elim
  | succ n ih =>
  intro x2 x3 u hw
  unfold wt_findsAgain_92 at hw
  refine gk_iload_n (pc := 92) C.1 2 dX6_findsAgain_92 rfl rfl ?_
  refine gk_aload_n (pc := 93) C.1 0 dX6_findsAgain_93 rfl rfl ?_
  refine tk_getA (pc := 94) C (k := 2) (by decide) (by decide) q2123 rfl dX6_findsAgain_94 ?_
  refine gk_iload_n (pc := 97) C.1 1 dX6_findsAgain_97 rfl rfl ?_
  obtain ⟨hi, hw⟩ := hw
  refine tk_ald (pc := 98) C (k := 2) (by decide) hi dX6_findsAgain_98 ?_
  refine gk_icmp_ge (pc := 99) (tgt := 144) C.1 dX6_findsAgain_99 (by decide) (fun c_1 => ?_) (fun c_1 => ?_)
  · replace hw := hw.1 c_1
    exact tk_vret (pc := 144) C hret dX6_findsAgain_144 hw
  · replace hw := hw.2 c_1
    refine gk_aload_n (pc := 102) C.1 0 dX6_findsAgain_102 rfl rfl ?_
    refine tk_getA (pc := 103) C (k := 1) (by decide) (by decide) q2122 rfl dX6_findsAgain_103 ?_
    refine gk_iload_n (pc := 106) C.1 1 dX6_findsAgain_106 rfl rfl ?_
    obtain ⟨hi, hw⟩ := hw
    refine tk_ald (pc := 107) C (k := 1) (by decide) hi dX6_findsAgain_107 ?_
    refine gk_iconst (pc := 108) (v := 3) C.1 dX6_findsAgain_108 (by decide) ?_
    refine gk_icmp_ne (pc := 109) (tgt := 144) C.1 dX6_findsAgain_109 (by decide) (fun c_2 => ?_) (fun c_2 => ?_)
    · replace hw := hw.1 c_2
      exact tk_vret (pc := 144) C hret dX6_findsAgain_144 hw
    · replace hw := hw.2 c_2
      refine gk_aload_n (pc := 112) C.1 0 dX6_findsAgain_112 rfl rfl ?_
      refine gk_iload_n (pc := 113) C.1 1 dX6_findsAgain_113 rfl rfl ?_
      refine gk_iload_n (pc := 114) C.1 2 dX6_findsAgain_114 rfl rfl ?_
      refine tk_callV (pc := 115) (y := yX6_isAgain) (n := 2) (As := [.int x2, .int x3]) (rest := []) C (wk_isAgain (ev_l X) hG hw) q2551 q2553 qs119 q2554 ⟨rfl, by decide +kernel⟩ ⟨by decide, by decide⟩ rfl rfl (Nat.le_of_ble_eq_true rfl) dX6_findsAgain_115 (fun v9 u_3 hp => ?_)
      obtain ⟨r_4, rfl, hw⟩ := hp
      refine GK.at (p2 := 118) rfl ?_
      refine gk_if_eq (pc := 118) (tgt := 138) C.1 dX6_findsAgain_118 (by decide) (fun c_5 => ?_) (fun c_5 => ?_)
      · replace hw := hw.1 c_5
        refine GK.sub (lv' := [(0, .ref G.2.2.1), (2, .int x2), (3, .int x3)]) [0, 1, 2] rfl ?_
        exact kt_findsAgain_138 C hG hret hXn ih _ _ _ hw
      · replace hw := hw.2 c_5
        refine gk_aload_n (pc := 121) C.1 0 dX6_findsAgain_121 rfl rfl ?_
        refine gk_aload_n (pc := 122) C.1 0 dX6_findsAgain_122 rfl rfl ?_
        refine tk_getA (pc := 123) C (k := 5) (by decide) (by decide) q2126 rfl dX6_findsAgain_123 ?_
        refine gk_aload_n (pc := 126) C.1 0 dX6_findsAgain_126 rfl rfl ?_
        refine gk_iload_n (pc := 127) C.1 1 dX6_findsAgain_127 rfl rfl ?_
        refine gk_iload_n (pc := 128) C.1 2 dX6_findsAgain_128 rfl rfl ?_
        refine tk_callV (pc := 129) (y := yX6_childOf) (n := 2) (As := [.int x2, .int x3]) (rest := [.ref (G.2.2.2 5), .ref G.2.2.1]) C (wk_childOf (ev_l X) hG hw) q2505 q2507 qs109 q2508 ⟨rfl, by decide +kernel⟩ ⟨by decide, by decide⟩ rfl rfl (Nat.le_of_ble_eq_true rfl) dX6_findsAgain_129 (fun v9 u_6 hp => ?_)
        obtain ⟨r_7, rfl, hw⟩ := hp
        refine GK.at (p2 := 132) rfl ?_
        obtain ⟨hi, hw⟩ := hw
        refine tk_ald (pc := 132) C (k := 5) (by decide) hi dX6_findsAgain_132 ?_
        refine gk_bipush (pc := 133) (v := 12) C.1 dX6_findsAgain_133 (by decide) ?_
        refine tk_callV (pc := 135) (y := yX6_finds) (n := 2) (As := [.int (u_6.1 5 r_7.toNatClampNeg), .int 12]) (rest := []) C (wk_finds (ev_l X) hG hw) q2477 q2479 qs102 q2480 ⟨rfl, by decide +kernel⟩ ⟨by decide, by decide⟩ rfl rfl (Nat.le_of_ble_eq_true rfl) dX6_findsAgain_135 (fun v9 u_8 hp => ?_)
        obtain ⟨rfl, hw⟩ := hp
        refine GK.at (p2 := 138) rfl ?_
        refine GK.sub (lv' := [(0, .ref G.2.2.1), (2, .int x2), (3, .int x3)]) [0, 1, 2] rfl ?_
        exact kt_findsAgain_138 C hG hret hXn ih _ _ _ hw
def wt_findsAgain (k : TS → Prop) (x1 : Int32) (x2 : Int32) (u : TS) : Prop := vp_in ((u.2 35) - 1) 400 ∧ (((¬ (u.1 28 ((u.2 35) - 1).toNatClampNeg) = 0 → (∀ u_2 : TS, u_2 = tpI u 35 ((u.2 35) - 1) → (vp_in (u_2.2 35) 400 ∧ ((((u_2.2 33) ≤ (u_2.1 29 (u_2.2 35).toNatClampNeg) → (∃ fu : Nat, wt_findsAgain_92 k fu x2 0 u_2)) ∧ (¬ (u_2.2 33) ≤ (u_2.1 29 (u_2.2 35).toNatClampNeg) → (∀ u_4 : TS, u_4 = tpI u_2 34 ((u_2.2 34) + 1) → (k u_4)))))))) ∧ ((u.1 28 ((u.2 35) - 1).toNatClampNeg) = 0 → (vp_in ((u.2 35) - 1) 400 ∧ (∀ u_5 : TS, u_5 = tpA u 28 ((u.2 35) - 1).toNatClampNeg 1 → (vp_in ((u_5.2 35) - 1) 400 ∧ (∀ u_6 : TS, u_6 = tpA u_5 29 ((u_5.2 35) - 1).toNatClampNeg (u_5.2 33) → (vp_in x1 25 ∧ (wt_looks (fun u_7 => k u_7) (u_6.1 10 x1.toNatClampNeg) x2 u_6)))))))))
theorem wk_findsAgain (l : Launch) {G : TG} (hG : TD G) {k : TS → Prop} {x1 : Int32} {x2 : Int32} {u : TS} (hw : wt_findsAgain k x1 x2 u) : TMet l yX6_findsAgain cX6_findsAgain 4 (none) 5 G [.ref G.2.2.1, .int x1, .int x2] u (tV k) := by
  refine tk_met hG rfl (Nat.le_of_ble_eq_true rfl) (fun X hXl hXn hret C => ?_)
  subst hXl
  unfold wt_findsAgain at hw
  refine GK.sub (lv' := [(0, .ref G.2.2.1), (1, .int x1), (2, .int x2)]) [0, 1, 2] rfl ?_
  refine gk_aload_n (pc := 0) C.1 0 dX6_findsAgain_0 rfl rfl ?_
  refine tk_getA (pc := 1) C (k := 28) (by decide) (by decide) q2149 rfl dX6_findsAgain_1 ?_
  refine gk_aload_n (pc := 4) C.1 0 dX6_findsAgain_4 rfl rfl ?_
  refine tk_getI (pc := 5) C (k := 35) (by decide) (by decide) q2156 rfl dX6_findsAgain_5 ?_
  refine gk_iconst (pc := 8) (v := 1) C.1 dX6_findsAgain_8 (by decide) ?_
  refine gk_isub (pc := 9) C.1 dX6_findsAgain_9 ?_
  obtain ⟨hi, hw⟩ := hw
  refine tk_ald (pc := 10) C (k := 28) (by decide) hi dX6_findsAgain_10 ?_
  refine gk_if_ne (pc := 11) (tgt := 53) C.1 dX6_findsAgain_11 (by decide) (fun c_1 => ?_) (fun c_1 => ?_)
  · replace hw := hw.1 c_1
    refine gk_aload_n (pc := 53) C.1 0 dX6_findsAgain_53 rfl rfl ?_
    refine gk_dup (pc := 54) C.1 dX6_findsAgain_54 rfl ?_
    refine tk_getI (pc := 55) C (k := 35) (by decide) (by decide) q2156 rfl dX6_findsAgain_55 ?_
    refine gk_iconst (pc := 58) (v := 1) C.1 dX6_findsAgain_58 (by decide) ?_
    refine gk_isub (pc := 59) C.1 dX6_findsAgain_59 ?_
    refine tk_putI (pc := 60) C (k := 35) (by decide) (by decide) q2156 rfl rfl (ty := .int) rfl rfl rfl dX6_findsAgain_60 (fun u_2 eu_2 => ?_)
    replace hw := hw u_2 eu_2
    refine gk_aload_n (pc := 63) C.1 0 dX6_findsAgain_63 rfl rfl ?_
    refine tk_getI (pc := 64) C (k := 33) (by decide) (by decide) q2154 rfl dX6_findsAgain_64 ?_
    refine gk_aload_n (pc := 67) C.1 0 dX6_findsAgain_67 rfl rfl ?_
    refine tk_getA (pc := 68) C (k := 29) (by decide) (by decide) q2150 rfl dX6_findsAgain_68 ?_
    refine gk_aload_n (pc := 71) C.1 0 dX6_findsAgain_71 rfl rfl ?_
    refine tk_getI (pc := 72) C (k := 35) (by decide) (by decide) q2156 rfl dX6_findsAgain_72 ?_
    obtain ⟨hi, hw⟩ := hw
    refine tk_ald (pc := 75) C (k := 29) (by decide) hi dX6_findsAgain_75 ?_
    refine gk_icmp_le (pc := 76) (tgt := 90) C.1 dX6_findsAgain_76 (by decide) (fun c_3 => ?_) (fun c_3 => ?_)
    · replace hw := hw.1 c_3
      refine gk_iconst (pc := 90) (v := 0) C.1 dX6_findsAgain_90 (by decide) ?_
      refine gk_istore_n (pc := 91) (lv' := [(3, Value.int 0), (0, Value.ref G.2.2.1), (1, Value.int x1), (2, Value.int x2)]) C.1 dX6_findsAgain_91 rfl (by rw [hXn]; decide) rfl ?_
      refine GK.sub (lv' := [(0, .ref G.2.2.1), (2, .int x2), (3, .int 0)]) [1, 3, 0] rfl ?_
      obtain ⟨n9, hw⟩ := hw
      exact kt_findsAgain_92 C hG hret hXn  n9 _ _ _ hw
    · replace hw := hw.2 c_3
      refine gk_aload_n (pc := 79) C.1 0 dX6_findsAgain_79 rfl rfl ?_
      refine gk_dup (pc := 80) C.1 dX6_findsAgain_80 rfl ?_
      refine tk_getI (pc := 81) C (k := 34) (by decide) (by decide) q2155 rfl dX6_findsAgain_81 ?_
      refine gk_iconst (pc := 84) (v := 1) C.1 dX6_findsAgain_84 (by decide) ?_
      refine gk_iadd (pc := 85) C.1 dX6_findsAgain_85 ?_
      refine tk_putI (pc := 86) C (k := 34) (by decide) (by decide) q2155 rfl rfl (ty := .int) rfl rfl rfl dX6_findsAgain_86 (fun u_4 eu_4 => ?_)
      replace hw := hw u_4 eu_4
      exact tk_vret (pc := 89) C hret dX6_findsAgain_89 hw
  · replace hw := hw.2 c_1
    refine gk_aload_n (pc := 14) C.1 0 dX6_findsAgain_14 rfl rfl ?_
    refine tk_getA (pc := 15) C (k := 28) (by decide) (by decide) q2149 rfl dX6_findsAgain_15 ?_
    refine gk_aload_n (pc := 18) C.1 0 dX6_findsAgain_18 rfl rfl ?_
    refine tk_getI (pc := 19) C (k := 35) (by decide) (by decide) q2156 rfl dX6_findsAgain_19 ?_
    refine gk_iconst (pc := 22) (v := 1) C.1 dX6_findsAgain_22 (by decide) ?_
    refine gk_isub (pc := 23) C.1 dX6_findsAgain_23 ?_
    refine gk_iconst (pc := 24) (v := 1) C.1 dX6_findsAgain_24 (by decide) ?_
    obtain ⟨hi, hw⟩ := hw
    refine tk_ast (pc := 25) C (k := 28) (by decide) hi dX6_findsAgain_25 (fun u_5 eu_5 => ?_)
    replace hw := hw u_5 eu_5
    refine gk_aload_n (pc := 26) C.1 0 dX6_findsAgain_26 rfl rfl ?_
    refine tk_getA (pc := 27) C (k := 29) (by decide) (by decide) q2150 rfl dX6_findsAgain_27 ?_
    refine gk_aload_n (pc := 30) C.1 0 dX6_findsAgain_30 rfl rfl ?_
    refine tk_getI (pc := 31) C (k := 35) (by decide) (by decide) q2156 rfl dX6_findsAgain_31 ?_
    refine gk_iconst (pc := 34) (v := 1) C.1 dX6_findsAgain_34 (by decide) ?_
    refine gk_isub (pc := 35) C.1 dX6_findsAgain_35 ?_
    refine gk_aload_n (pc := 36) C.1 0 dX6_findsAgain_36 rfl rfl ?_
    refine tk_getI (pc := 37) C (k := 33) (by decide) (by decide) q2154 rfl dX6_findsAgain_37 ?_
    obtain ⟨hi, hw⟩ := hw
    refine tk_ast (pc := 40) C (k := 29) (by decide) hi dX6_findsAgain_40 (fun u_6 eu_6 => ?_)
    replace hw := hw u_6 eu_6
    refine gk_aload_n (pc := 41) C.1 0 dX6_findsAgain_41 rfl rfl ?_
    refine gk_aload_n (pc := 42) C.1 0 dX6_findsAgain_42 rfl rfl ?_
    refine tk_getA (pc := 43) C (k := 10) (by decide) (by decide) q2131 rfl dX6_findsAgain_43 ?_
    refine gk_iload_n (pc := 46) C.1 1 dX6_findsAgain_46 rfl rfl ?_
    obtain ⟨hi, hw⟩ := hw
    refine tk_ald (pc := 47) C (k := 10) (by decide) hi dX6_findsAgain_47 ?_
    refine gk_iload_n (pc := 48) C.1 2 dX6_findsAgain_48 rfl rfl ?_
    refine tk_callV (pc := 49) (y := yX6_looks) (n := 2) (As := [.int (u_6.1 10 x1.toNatClampNeg), .int x2]) (rest := []) C (wk_looks (ev_l X) hG hw) q2465 q2467 qs99 q2468 ⟨rfl, by decide +kernel⟩ ⟨by decide, by decide⟩ rfl rfl (Nat.le_of_ble_eq_true rfl) dX6_findsAgain_49 (fun v9 u_7 hp => ?_)
    obtain ⟨rfl, hw⟩ := hp
    refine GK.at (p2 := 52) rfl ?_
    exact tk_vret (pc := 52) C hret dX6_findsAgain_52 hw
