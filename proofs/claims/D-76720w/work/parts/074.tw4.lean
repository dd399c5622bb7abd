set_option maxRecDepth 100000
/-! endsCheck(I)V -/
def wt_endsCheck_151 (k : TS → Prop) (J15 : Int32 → Int32 → TS → Prop) (x2 : Int32) (s0 : Int32) (u : TS) : Prop := J15 x2 s0 u
theorem kt_endsCheck_151 {X : Ev} {G : TG} {k : TS → Prop} {J15 : Int32 → Int32 → TS → Prop} (C : TC X G cX6_endsCheck 1) (hG : TD G) (hret : (ev_h X).sig.returnType = none) (hXn : ev_n X = 6) (hJ15 : ∀ (x2 : Int32) (x3 : Int32) (u : TS), J15 x2 x3 u → GK X (TP G u) 0 0 (tQ X G (tV k)) 15 [(0, .ref G.2.2.1), (2, .int x2), (3, .int x3)] []) : ∀ (x2 : Int32) (s0 : Int32) (u : TS), wt_endsCheck_151 k J15 x2 s0 u → GK X (TP G u) 0 0 (tQ X G (tV k)) 151 [(0, .ref G.2.2.1), (2, .int x2)] [.int s0] := by
  intro x2 s0 u hw
  unfold wt_endsCheck_151 at hw
  refine gk_istore_n (pc := 151) (lv' := [(3, Value.int s0), (0, Value.ref G.2.2.1), (2, Value.int x2)]) C.1 dX6_endsCheck_151 rfl (by rw [hXn]; decide) rfl ?_
  refine gk_goto (pc := 152) (tgt := 15) C.1 dX6_endsCheck_152 (by decide) ?_
  refine GK.sub (lv' := [(0, .ref G.2.2.1), (2, .int x2), (3, .int s0)]) [1, 2, 0] rfl ?_
  exact hJ15 _ _ _ hw
def wt_endsCheck_126 (k : TS → Prop) (J15 : Int32 → Int32 → TS → Prop) (x5 : Int32) (u : TS) : Prop := ∀ u_1 : TS, u_1 = tpI u 45 ((u.2 45) - 1) → ((((u_1.2 45) ≤ 0 → (wt_endsCheck_151 k J15 x5 0 u_1)) ∧ (¬ (u_1.2 45) ≤ 0 → (wt_endsCheck_151 k J15 x5 1 u_1))))
theorem kt_endsCheck_126 {X : Ev} {G : TG} {k : TS → Prop} {J15 : Int32 → Int32 → TS → Prop} (C : TC X G cX6_endsCheck 1) (hG : TD G) (hret : (ev_h X).sig.returnType = none) (hXn : ev_n X = 6) (hJ15 : ∀ (x2 : Int32) (x3 : Int32) (u : TS), J15 x2 x3 u → GK X (TP G u) 0 0 (tQ X G (tV k)) 15 [(0, .ref G.2.2.1), (2, .int x2), (3, .int x3)] []) : ∀ (x5 : Int32) (u : TS), wt_endsCheck_126 k J15 x5 u → GK X (TP G u) 0 0 (tQ X G (tV k)) 126 [(0, .ref G.2.2.1), (5, .int x5)] [] := by
  intro x5 u hw
  unfold wt_endsCheck_126 at hw
  refine gk_aload_n (pc := 126) C.1 0 dX6_endsCheck_126 rfl rfl ?_
  refine gk_dup (pc := 127) C.1 dX6_endsCheck_127 rfl ?_
  refine tk_getI (pc := 128) C (k := 45) (by decide) (by decide) q2166 rfl dX6_endsCheck_128 ?_
  refine gk_iconst (pc := 131) (v := 1) C.1 dX6_endsCheck_131 (by decide) ?_
  refine gk_isub (pc := 132) C.1 dX6_endsCheck_132 ?_
  refine tk_putI (pc := 133) C (k := 45) (by decide) (by decide) q2166 rfl rfl (ty := .int) rfl rfl rfl dX6_endsCheck_133 (fun u_1 eu_1 => ?_)
  replace hw := hw u_1 eu_1
  refine gk_iload (pc := 136) C.1 1 dX6_endsCheck_136 rfl ?_
  refine gk_istore_n (pc := 138) (lv' := [(2, Value.int x5), (0, Value.ref G.2.2.1), (5, Value.int x5)]) C.1 dX6_endsCheck_138 rfl (by rw [hXn]; decide) rfl ?_
  refine gk_aload_n (pc := 139) C.1 1 dX6_endsCheck_139 rfl rfl ?_
  refine tk_getI (pc := 140) C (k := 45) (by decide) (by decide) q2166 rfl dX6_endsCheck_140 ?_
  refine gk_if_le (pc := 143) (tgt := 150) C.1 dX6_endsCheck_143 (by decide) (fun c_2 => ?_) (fun c_2 => ?_)
  · replace hw := hw.1 c_2
    refine gk_iconst (pc := 150) (v := 0) C.1 dX6_endsCheck_150 (by decide) ?_
    refine GK.sub (lv' := [(0, .ref G.2.2.1), (2, .int x5)]) [1, 0] rfl ?_
    exact kt_endsCheck_151 C hG hret hXn hJ15 _ _ _ hw
  · replace hw := hw.2 c_2
    refine gk_iconst (pc := 146) (v := 1) C.1 dX6_endsCheck_146 (by decide) ?_
    refine gk_goto (pc := 147) (tgt := 151) C.1 dX6_endsCheck_147 (by decide) ?_
    refine GK.sub (lv' := [(0, .ref G.2.2.1), (2, .int x5)]) [1, 0] rfl ?_
    exact kt_endsCheck_151 C hG hret hXn hJ15 _ _ _ hw
def wt_endsCheck_91 (k : TS → Prop) (J15 : Int32 → Int32 → TS → Prop) (x4 : Int32) (x5 : Int32) (u : TS) : Prop := vp_in x4 100 ∧ (vp_in x4 100 ∧ (∀ u_1 : TS, u_1 = tpA u 40 x4.toNatClampNeg ((u.1 40 x4.toNatClampNeg) + 1) → (vp_in x4 100 ∧ (((¬ (u_1.1 38 x4.toNatClampNeg) = 47 → (wt_endsCheck_126 k J15 x5 u_1)) ∧ ((u_1.1 38 x4.toNatClampNeg) = 47 → (vp_in x4 100 ∧ (((¬ (u_1.1 40 x4.toNatClampNeg) = 1 → (wt_endsCheck_126 k J15 x5 u_1)) ∧ ((u_1.1 40 x4.toNatClampNeg) = 1 → (k u_1)))))))))))
theorem kt_endsCheck_91 {X : Ev} {G : TG} {k : TS → Prop} {J15 : Int32 → Int32 → TS → Prop} (C : TC X G cX6_endsCheck 1) (hG : TD G) (hret : (ev_h X).sig.returnType = none) (hXn : ev_n X = 6) (hJ15 : ∀ (x2 : Int32) (x3 : Int32) (u : TS), J15 x2 x3 u → GK X (TP G u) 0 0 (tQ X G (tV k)) 15 [(0, .ref G.2.2.1), (2, .int x2), (3, .int x3)] []) : ∀ (x4 : Int32) (x5 : Int32) (u : TS), wt_endsCheck_91 k J15 x4 x5 u → GK X (TP G u) 0 0 (tQ X G (tV k)) 91 [(0, .ref G.2.2.1), (4, .int x4), (5, .int x5)] [] := by
  intro x4 x5 u hw
  unfold wt_endsCheck_91 at hw
  refine gk_aload_n (pc := 91) C.1 0 dX6_endsCheck_91 rfl rfl ?_
  refine tk_getA (pc := 92) C (k := 40) (by decide) (by decide) q2161 rfl dX6_endsCheck_92 ?_
  refine gk_iload (pc := 95) C.1 1 dX6_endsCheck_95 rfl ?_
  refine gk_dup2 (pc := 97) C.1 dX6_endsCheck_97 rfl rfl ?_
  obtain ⟨hi, hw⟩ := hw
  refine tk_ald (pc := 98) C (k := 40) (by decide) hi dX6_endsCheck_98 ?_
  refine gk_iconst (pc := 99) (v := 1) C.1 dX6_endsCheck_99 (by decide) ?_
  refine gk_iadd (pc := 100) C.1 dX6_endsCheck_100 ?_
  obtain ⟨hi, hw⟩ := hw
  refine tk_ast (pc := 101) C (k := 40) (by decide) hi dX6_endsCheck_101 (fun u_1 eu_1 => ?_)
  replace hw := hw u_1 eu_1
  refine gk_aload_n (pc := 102) C.1 0 dX6_endsCheck_102 rfl rfl ?_
  refine tk_getA (pc := 103) C (k := 38) (by decide) (by decide) q2159 rfl dX6_endsCheck_103 ?_
  refine gk_iload (pc := 106) C.1 1 dX6_endsCheck_106 rfl ?_
  obtain ⟨hi, hw⟩ := hw
  refine tk_ald (pc := 108) C (k := 38) (by decide) hi dX6_endsCheck_108 ?_
  refine gk_bipush (pc := 109) (v := 47) C.1 dX6_endsCheck_109 (by decide) ?_
  refine gk_icmp_ne (pc := 111) (tgt := 126) C.1 dX6_endsCheck_111 (by decide) (fun c_2 => ?_) (fun c_2 => ?_)
  · replace hw := hw.1 c_2
    refine GK.sub (lv' := [(0, .ref G.2.2.1), (5, .int x5)]) [0, 2] rfl ?_
    exact kt_endsCheck_126 C hG hret hXn hJ15 _ _ hw
  · replace hw := hw.2 c_2
    refine gk_aload_n (pc := 114) C.1 0 dX6_endsCheck_114 rfl rfl ?_
    refine tk_getA (pc := 115) C (k := 40) (by decide) (by decide) q2161 rfl dX6_endsCheck_115 ?_
    refine gk_iload (pc := 118) C.1 1 dX6_endsCheck_118 rfl ?_
    obtain ⟨hi, hw⟩ := hw
    refine tk_ald (pc := 120) C (k := 40) (by decide) hi dX6_endsCheck_120 ?_
    refine gk_iconst (pc := 121) (v := 1) C.1 dX6_endsCheck_121 (by decide) ?_
    refine gk_icmp_ne (pc := 122) (tgt := 126) C.1 dX6_endsCheck_122 (by decide) (fun c_3 => ?_) (fun c_3 => ?_)
    · replace hw := hw.1 c_3
      refine GK.sub (lv' := [(0, .ref G.2.2.1), (5, .int x5)]) [0, 2] rfl ?_
      exact kt_endsCheck_126 C hG hret hXn hJ15 _ _ hw
    · replace hw := hw.2 c_3
      exact tk_vret (pc := 125) C hret dX6_endsCheck_125 hw
def wt_endsCheck_15 (k : TS → Prop) : Nat → Int32 → Int32 → TS → Prop
  | 0 => fun _ _ _ => False
  | n + 1 => fun x2 x3 u => ((x3 = 0 → (k u)) ∧ (¬ x3 = 0 → (∀ x_2 : Int32, x_2 = (u.2 45) - 1 → (vp_in x_2 100 ∧ (∀ x_3 : Int32, x_3 = u.1 37 x_2.toNatClampNeg → (vp_in x_2 100 ∧ (((¬ (u.1 38 x_2.toNatClampNeg) = 123 → (vp_in x_2 100 ∧ (((¬ (u.1 40 x_2.toNatClampNeg) = 0 → (vp_in x_3 25 ∧ (∀ u_6 : TS, u_6 = tpA u 11 x_3.toNatClampNeg x2 → (wt_endsCheck_91 k (fun yx2 yx3 yu => wt_endsCheck_15 k n yx2 yx3 yu) x_2 x_3 u_6)))) ∧ ((u.1 40 x_2.toNatClampNeg) = 0 → (vp_in x_3 25 ∧ (∀ u_7 : TS, u_7 = tpA u 10 x_3.toNatClampNeg x2 → (wt_endsCheck_91 k (fun yx2 yx3 yu => wt_endsCheck_15 k n yx2 yx3 yu) x_2 x_3 u_7)))))))) ∧ ((u.1 38 x_2.toNatClampNeg) = 123 → (vp_in x_2 100 ∧ (vp_in (u.1 40 x_2.toNatClampNeg) 25 ∧ (∀ u_8 : TS, u_8 = tpA u 15 (u.1 40 x_2.toNatClampNeg).toNatClampNeg x2 → (k u_8)))))))))))))
theorem kt_endsCheck_15 {X : Ev} {G : TG} {k : TS → Prop} (C : TC X G cX6_endsCheck 1) (hG : TD G) (hret : (ev_h X).sig.returnType = none) (hXn : ev_n X = 6) : ∀ (n : Nat) (x2 : Int32) (x3 : Int32) (u : TS), wt_endsCheck_15 k n x2 x3 u → GK X (TP G u) 0 0 (tQ X G (tV k)) 15 [(0, .ref G.2.2.1), (2, .int x2), (3, .int x3)] [] := by
  intro n
  induction n with
  | zero => intro x2 x3 u hw; exact hw.elim
  | succ n ih =>
  intro x2 x3 u hw
  unfold wt_endsCheck_15 at hw
  refine gk_iload_n (pc := 15) C.1 2 dX6_endsCheck_15 rfl rfl ?_
  refine gk_if_eq (pc := 16) (tgt := 155) C.1 dX6_endsCheck_16 (by decide) (fun c_1 => ?_) (fun c_1 => ?_)
  · replace hw := hw.1 c_1
    exact tk_vret (pc := 155) C hret dX6_endsCheck_155 hw
  · replace hw := hw.2 c_1
    refine gk_aload_n (pc := 19) C.1 0 dX6_endsCheck_19 rfl rfl ?_
    refine tk_getI (pc := 20) C (k := 45) (by decide) (by decide) q2166 rfl dX6_endsCheck_20 ?_
    refine gk_iconst (pc := 23) (v := 1) C.1 dX6_endsCheck_23 (by decide) ?_
    refine gk_isub (pc := 24) C.1 dX6_endsCheck_24 ?_
    obtain ⟨x_2, ex_2⟩ : ∃ z : Int32, z = (u.2 45) - 1 := ⟨_, rfl⟩
    rw [← ex_2]
    replace hw := hw x_2 ex_2
    refine gk_istore (pc := 25) (lv' := [(4, Value.int x_2), (0, Value.ref G.2.2.1), (2, Value.int x2), (3, Value.int x3)]) C.1 dX6_endsCheck_25 (by rw [hXn]; decide) rfl ?_
    refine gk_aload_n (pc := 27) C.1 1 dX6_endsCheck_27 rfl rfl ?_
    refine tk_getA (pc := 28) C (k := 37) (by decide) (by decide) q2158 rfl dX6_endsCheck_28 ?_
    refine gk_iload (pc := 31) C.1 0 dX6_endsCheck_31 rfl ?_
    obtain ⟨hi, hw⟩ := hw
    refine tk_ald (pc := 33) C (k := 37) (by decide) hi dX6_endsCheck_33 ?_
    obtain ⟨x_3, ex_3⟩ : ∃ z : Int32, z = u.1 37 x_2.toNatClampNeg := ⟨_, rfl⟩
    rw [← ex_3]
    replace hw := hw x_3 ex_3
    refine gk_istore (pc := 34) (lv' := [(5, Value.int x_3), (4, Value.int x_2), (0, Value.ref G.2.2.1), (2, Value.int x2), (3, Value.int x3)]) C.1 dX6_endsCheck_34 (by rw [hXn]; decide) rfl ?_
    refine gk_aload_n (pc := 36) C.1 2 dX6_endsCheck_36 rfl rfl ?_
    refine tk_getA (pc := 37) C (k := 38) (by decide) (by decide) q2159 rfl dX6_endsCheck_37 ?_
    refine gk_iload (pc := 40) C.1 1 dX6_endsCheck_40 rfl ?_
    obtain ⟨hi, hw⟩ := hw
    refine tk_ald (pc := 42) C (k := 38) (by decide) hi dX6_endsCheck_42 ?_
    refine gk_bipush (pc := 43) (v := 123) C.1 dX6_endsCheck_43 (by decide) ?_
    refine gk_icmp_ne (pc := 45) (tgt := 62) C.1 dX6_endsCheck_45 (by decide) (fun c_4 => ?_) (fun c_4 => ?_)
    · replace hw := hw.1 c_4
      refine gk_aload_n (pc := 62) C.1 2 dX6_endsCheck_62 rfl rfl ?_
      refine tk_getA (pc := 63) C (k := 40) (by decide) (by decide) q2161 rfl dX6_endsCheck_63 ?_
      refine gk_iload (pc := 66) C.1 1 dX6_endsCheck_66 rfl ?_
      obtain ⟨hi, hw⟩ := hw
      refine tk_ald (pc := 68) C (k := 40) (by decide) hi dX6_endsCheck_68 ?_
      refine gk_if_ne (pc := 69) (tgt := 83) C.1 dX6_endsCheck_69 (by decide) (fun c_5 => ?_) (fun c_5 => ?_)
      · replace hw := hw.1 c_5
        refine gk_aload_n (pc := 83) C.1 2 dX6_endsCheck_83 rfl rfl ?_
        refine tk_getA (pc := 84) C (k := 11) (by decide) (by decide) q2132 rfl dX6_endsCheck_84 ?_
        refine gk_iload (pc := 87) C.1 0 dX6_endsCheck_87 rfl ?_
        refine gk_iload_n (pc := 89) C.1 3 dX6_endsCheck_89 rfl rfl ?_
        obtain ⟨hi, hw⟩ := hw
        refine tk_ast (pc := 90) C (k := 11) (by decide) hi dX6_endsCheck_90 (fun u_6 eu_6 => ?_)
        replace hw := hw u_6 eu_6
        refine GK.sub (lv' := [(0, .ref G.2.2.1), (4, .int x_2), (5, .int x_3)]) [2, 1, 0] rfl ?_
        exact kt_endsCheck_91 C hG hret hXn ih _ _ _ hw
      · replace hw := hw.2 c_5
        refine gk_aload_n (pc := 72) C.1 2 dX6_endsCheck_72 rfl rfl ?_
        refine tk_getA (pc := 73) C (k := 10) (by decide) (by decide) q2131 rfl dX6_endsCheck_73 ?_
        refine gk_iload (pc := 76) C.1 0 dX6_endsCheck_76 rfl ?_
        refine gk_iload_n (pc := 78) C.1 3 dX6_endsCheck_78 rfl rfl ?_
        obtain ⟨hi, hw⟩ := hw
        refine tk_ast (pc := 79) C (k := 10) (by decide) hi dX6_endsCheck_79 (fun u_7 eu_7 => ?_)
        replace hw := hw u_7 eu_7
        refine gk_goto (pc := 80) (tgt := 91) C.1 dX6_endsCheck_80 (by decide) ?_
        refine GK.sub (lv' := [(0, .ref G.2.2.1), (4, .int x_2), (5, .int x_3)]) [2, 1, 0] rfl ?_
        exact kt_endsCheck_91 C hG hret hXn ih _ _ _ hw
    · replace hw := hw.2 c_4
      refine gk_aload_n (pc := 48) C.1 2 dX6_endsCheck_48 rfl rfl ?_
      refine tk_getA (pc := 49) C (k := 15) (by decide) (by decide) q2136 rfl dX6_endsCheck_49 ?_
      refine gk_aload_n (pc := 52) C.1 2 dX6_endsCheck_52 rfl rfl ?_
      refine tk_getA (pc := 53) C (k := 40) (by decide) (by decide) q2161 rfl dX6_endsCheck_53 ?_
      refine gk_iload (pc := 56) C.1 1 dX6_endsCheck_56 rfl ?_
      obtain ⟨hi, hw⟩ := hw
      refine tk_ald (pc := 58) C (k := 40) (by decide) hi dX6_endsCheck_58 ?_
      refine gk_iload_n (pc := 59) C.1 3 dX6_endsCheck_59 rfl rfl ?_
      obtain ⟨hi, hw⟩ := hw
      refine tk_ast (pc := 60) C (k := 15) (by decide) hi dX6_endsCheck_60 (fun u_8 eu_8 => ?_)
      replace hw := hw u_8 eu_8
      exact tk_vret (pc := 61) C hret dX6_endsCheck_61 hw
def wt_endsCheck_14 (k : TS → Prop) (x2 : Int32) (s0 : Int32) (u : TS) : Prop := ∃ fu : Nat, wt_endsCheck_15 k fu x2 s0 u
theorem kt_endsCheck_14 {X : Ev} {G : TG} {k : TS → Prop} (C : TC X G cX6_endsCheck 1) (hG : TD G) (hret : (ev_h X).sig.returnType = none) (hXn : ev_n X = 6) : ∀ (x2 : Int32) (s0 : Int32) (u : TS), wt_endsCheck_14 k x2 s0 u → GK X (TP G u) 0 0 (tQ X G (tV k)) 14 [(0, .ref G.2.2.1), (2, .int x2)] [.int s0] := by
  intro x2 s0 u hw
  unfold wt_endsCheck_14 at hw
  refine gk_istore_n (pc := 14) (lv' := [(3, Value.int s0), (0, Value.ref G.2.2.1), (2, Value.int x2)]) C.1 dX6_endsCheck_14 rfl (by rw [hXn]; decide) rfl ?_
  refine GK.sub (lv' := [(0, .ref G.2.2.1), (2, .int x2), (3, .int s0)]) [1, 2, 0] rfl ?_
  obtain ⟨n9, hw⟩ := hw
  exact kt_endsCheck_15 C hG hret hXn  n9 _ _ _ hw
def wt_endsCheck (k : TS → Prop) (x1 : Int32) (u : TS) : Prop := (((u.2 45) ≤ 0 → (wt_endsCheck_14 k x1 0 u)) ∧ (¬ (u.2 45) ≤ 0 → (wt_endsCheck_14 k x1 1 u)))
theorem wk_endsCheck (l : Launch) {G : TG} (hG : TD G) {k : TS → Prop} {x1 : Int32} {u : TS} (hw : wt_endsCheck k x1 u) : TMet l yX6_endsCheck cX6_endsCheck 6 (none) 1 G [.ref G.2.2.1, .int x1] u (tV k) := by
  refine tk_met hG rfl (Nat.le_of_ble_eq_true rfl) (fun X hXl hXn hret C => ?_)
  subst hXl
  unfold wt_endsCheck at hw
  refine GK.sub (lv' := [(0, .ref G.2.2.1), (1, .int x1)]) [0, 1] rfl ?_
  refine gk_iload_n (pc := 0) C.1 1 dX6_endsCheck_0 rfl rfl ?_
  refine gk_istore_n (pc := 1) (lv' := [(2, Value.int x1), (0, Value.ref G.2.2.1), (1, Value.int x1)]) C.1 dX6_endsCheck_1 rfl (by rw [hXn]; decide) rfl ?_
  refine gk_aload_n (pc := 2) C.1 1 dX6_endsCheck_2 rfl rfl ?_
  refine tk_getI (pc := 3) C (k := 45) (by decide) (by decide) q2166 rfl dX6_endsCheck_3 ?_
  refine gk_if_le (pc := 6) (tgt := 13) C.1 dX6_endsCheck_6 (by decide) (fun c_1 => ?_) (fun c_1 => ?_)
  · replace hw := hw.1 c_1
    refine gk_iconst (pc := 13) (v := 0) C.1 dX6_endsCheck_13 (by decide) ?_
    refine GK.sub (lv' := [(0, .ref G.2.2.1), (2, .int x1)]) [1, 0] rfl ?_
    exact kt_endsCheck_14 C hG hret hXn  _ _ _ hw
  · replace hw := hw.2 c_1
    refine gk_iconst (pc := 9) (v := 1) C.1 dX6_endsCheck_9 (by decide) ?_
    refine gk_goto (pc := 10) (tgt := 14) C.1 dX6_endsCheck_10 (by decide) ?_
    refine GK.sub (lv' := [(0, .ref G.2.2.1), (2, .int x1)]) [1, 0] rfl ?_
    exact kt_endsCheck_14 C hG hret hXn  _ _ _ hw
/-! opens(IIZ)V -/
def wt_opens_57 (k : TS → Prop) (s1 : Int32) (s2 : Int32) (u : TS) : Prop := vp_in s1 100 ∧ (∀ u_1 : TS, u_1 = tpA u 41 s1.toNatClampNeg s2 → (∀ u_2 : TS, u_2 = tpI u_1 45 ((u_1.2 45) + 1) → (k u_2)))
theorem kt_opens_57 {X : Ev} {G : TG} {k : TS → Prop} (C : TC X G cX6_opens 1) (hG : TD G) (hret : (ev_h X).sig.returnType = none) (hXn : ev_n X = 4) : ∀ (s1 : Int32) (s2 : Int32) (u : TS), wt_opens_57 k s1 s2 u → GK X (TP G u) 0 0 (tQ X G (tV k)) 57 [(0, .ref G.2.2.1)] [.int s2, .int s1, .ref (G.2.2.2 41)] := by
  intro s1 s2 u hw
  unfold wt_opens_57 at hw
  obtain ⟨hi, hw⟩ := hw
  refine tk_ast (pc := 57) C (k := 41) (by decide) hi dX6_opens_57 (fun u_1 eu_1 => ?_)
  replace hw := hw u_1 eu_1
  refine gk_aload_n (pc := 58) C.1 0 dX6_opens_58 rfl rfl ?_
  refine gk_dup (pc := 59) C.1 dX6_opens_59 rfl ?_
  refine tk_getI (pc := 60) C (k := 45) (by decide) (by decide) q2166 rfl dX6_opens_60 ?_
  refine gk_iconst (pc := 63) (v := 1) C.1 dX6_opens_63 (by decide) ?_
  refine gk_iadd (pc := 64) C.1 dX6_opens_64 ?_
  refine tk_putI (pc := 65) C (k := 45) (by decide) (by decide) q2166 rfl rfl (ty := .int) rfl rfl rfl dX6_opens_65 (fun u_2 eu_2 => ?_)
  replace hw := hw u_2 eu_2
  exact tk_vret (pc := 68) C hret dX6_opens_68 hw
def wt_opens (k : TS → Prop) (x1 : Int32) (x2 : Int32) (x3 : Int32) (u : TS) : Prop := vp_in (u.2 45) 100 ∧ (∀ u_1 : TS, u_1 = tpA u 37 (u.2 45).toNatClampNeg x1 → (vp_in (u_1.2 45) 100 ∧ (∀ u_2 : TS, u_2 = tpA u_1 38 (u_1.2 45).toNatClampNeg x2 → (vp_in (u_2.2 45) 100 ∧ (∀ u_3 : TS, u_3 = tpA u_2 39 (u_2.2 45).toNatClampNeg 0 → (vp_in (u_3.2 45) 100 ∧ (∀ u_4 : TS, u_4 = tpA u_3 40 (u_3.2 45).toNatClampNeg 0 → (((x3 = 0 → (wt_opens_57 k (u_4.2 45) 0 u_4)) ∧ (¬ x3 = 0 → (wt_opens_57 k (u_4.2 45) 1 u_4)))))))))))
theorem wk_opens (l : Launch) {G : TG} (hG : TD G) {k : TS → Prop} {x1 : Int32} {x2 : Int32} {x3 : Int32} {u : TS} (hw : wt_opens k x1 x2 x3 u) : TMet l yX6_opens cX6_opens 4 (none) 1 G [.ref G.2.2.1, .int x1, .int x2, .int x3] u (tV k) := by
  refine tk_met hG rfl (Nat.le_of_ble_eq_true rfl) (fun X hXl hXn hret C => ?_)
  subst hXl
  unfold wt_opens at hw
  refine GK.sub (lv' := [(0, .ref G.2.2.1), (1, .int x1), (2, .int x2), (3, .int x3)]) [0, 1, 2, 3] rfl ?_
  refine gk_aload_n (pc := 0) C.1 0 dX6_opens_0 rfl rfl ?_
  refine tk_getA (pc := 1) C (k := 37) (by decide) (by decide) q2158 rfl dX6_opens_1 ?_
  refine gk_aload_n (pc := 4) C.1 0 dX6_opens_4 rfl rfl ?_
  refine tk_getI (pc := 5) C (k := 45) (by decide) (by decide) q2166 rfl dX6_opens_5 ?_
  refine gk_iload_n (pc := 8) C.1 1 dX6_opens_8 rfl rfl ?_
  obtain ⟨hi, hw⟩ := hw
  refine tk_ast (pc := 9) C (k := 37) (by decide) hi dX6_opens_9 (fun u_1 eu_1 => ?_)
  replace hw := hw u_1 eu_1
  refine gk_aload_n (pc := 10) C.1 0 dX6_opens_10 rfl rfl ?_
  refine tk_getA (pc := 11) C (k := 38) (by decide) (by decide) q2159 rfl dX6_opens_11 ?_
  refine gk_aload_n (pc := 14) C.1 0 dX6_opens_14 rfl rfl ?_
  refine tk_getI (pc := 15) C (k := 45) (by decide) (by decide) q2166 rfl dX6_opens_15 ?_
  refine gk_iload_n (pc := 18) C.1 2 dX6_opens_18 rfl rfl ?_
  obtain ⟨hi, hw⟩ := hw
  refine tk_ast (pc := 19) C (k := 38) (by decide) hi dX6_opens_19 (fun u_2 eu_2 => ?_)
  replace hw := hw u_2 eu_2
  refine gk_aload_n (pc := 20) C.1 0 dX6_opens_20 rfl rfl ?_
  refine tk_getA (pc := 21) C (k := 39) (by decide) (by decide) q2160 rfl dX6_opens_21 ?_
  refine gk_aload_n (pc := 24) C.1 0 dX6_opens_24 rfl rfl ?_
  refine tk_getI (pc := 25) C (k := 45) (by decide) (by decide) q2166 rfl dX6_opens_25 ?_
  refine gk_iconst (pc := 28) (v := 0) C.1 dX6_opens_28 (by decide) ?_
  obtain ⟨hi, hw⟩ := hw
  refine tk_ast (pc := 29) C (k := 39) (by decide) hi dX6_opens_29 (fun u_3 eu_3 => ?_)
  replace hw := hw u_3 eu_3
  refine gk_aload_n (pc := 30) C.1 0 dX6_opens_30 rfl rfl ?_
  refine tk_getA (pc := 31) C (k := 40) (by decide) (by decide) q2161 rfl dX6_opens_31 ?_
  refine gk_aload_n (pc := 34) C.1 0 dX6_opens_34 rfl rfl ?_
  refine tk_getI (pc := 35) C (k := 45) (by decide) (by decide) q2166 rfl dX6_opens_35 ?_
  refine gk_iconst (pc := 38) (v := 0) C.1 dX6_opens_38 (by decide) ?_
  obtain ⟨hi, hw⟩ := hw
  refine tk_ast (pc := 39) C (k := 40) (by decide) hi dX6_opens_39 (fun u_4 eu_4 => ?_)
  replace hw := hw u_4 eu_4
  refine gk_aload_n (pc := 40) C.1 0 dX6_opens_40 rfl rfl ?_
  refine tk_getA (pc := 41) C (k := 41) (by decide) (by decide) q2162 rfl dX6_opens_41 ?_
  refine gk_aload_n (pc := 44) C.1 0 dX6_opens_44 rfl rfl ?_
  refine tk_getI (pc := 45) C (k := 45) (by decide) (by decide) q2166 rfl dX6_opens_45 ?_
  refine gk_iload_n (pc := 48) C.1 3 dX6_opens_48 rfl rfl ?_
  refine gk_if_eq (pc := 49) (tgt := 56) C.1 dX6_opens_49 (by decide) (fun c_5 => ?_) (fun c_5 => ?_)
  · replace hw := hw.1 c_5
    refine gk_iconst (pc := 56) (v := 0) C.1 dX6_opens_56 (by decide) ?_
    refine GK.sub (lv' := [(0, .ref G.2.2.1)]) [0] rfl ?_
    exact kt_opens_57 C hG hret hXn  _ _ _ hw
  · replace hw := hw.2 c_5
    refine gk_iconst (pc := 52) (v := 1) C.1 dX6_opens_52 (by decide) ?_
    refine gk_goto (pc := 53) (tgt := 57) C.1 dX6_opens_53 (by decide) ?_
    refine GK.sub (lv' := [(0, .ref G.2.2.1)]) [0] rfl ?_
    exact kt_opens_57 C hG hret hXn  _ _ _ hw
/-! sign()I -/
def wt_sign (k : Int32 → TS → Prop) (u : TS) : Prop := (((u.2 42) ≤ (u.2 43) → (k (-1) u)) ∧ (¬ (u.2 42) ≤ (u.2 43) → (vp_in (u.2 43) 96 ∧ (k (u.1 36 (u.2 43).toNatClampNeg) u))))
theorem wk_sign (l : Launch) {G : TG} (hG : TD G) {k : Int32 → TS → Prop} {u : TS} (hw : wt_sign k  u) : TMet l yX6_sign cX6_sign 1 (some .int) 1 G [.ref G.2.2.1] u (tI k) := by
  refine tk_met hG rfl (Nat.le_of_ble_eq_true rfl) (fun X hXl hXn hret C => ?_)
  subst hXl
  unfold wt_sign at hw
  refine GK.sub (lv' := [(0, .ref G.2.2.1)]) [0] rfl ?_
  refine gk_aload_n (pc := 0) C.1 0 dX6_sign_0 rfl rfl ?_
  refine tk_getI (pc := 1) C (k := 43) (by decide) (by decide) q2164 rfl dX6_sign_1 ?_
  refine gk_aload_n (pc := 4) C.1 0 dX6_sign_4 rfl rfl ?_
  refine tk_getI (pc := 5) C (k := 42) (by decide) (by decide) q2163 rfl dX6_sign_5 ?_
  refine gk_icmp_ge (pc := 8) (tgt := 23) C.1 dX6_sign_8 (by decide) (fun c_1 => ?_) (fun c_1 => ?_)
  · replace hw := hw.1 c_1
    refine gk_iconst (pc := 23) (v := (-1)) C.1 dX6_sign_23 (by decide) ?_
    exact tk_iret (pc := 24) C hret dX6_sign_24 hw
  · replace hw := hw.2 c_1
    refine gk_aload_n (pc := 11) C.1 0 dX6_sign_11 rfl rfl ?_
    refine tk_getA (pc := 12) C (k := 36) (by decide) (by decide) q2157 rfl dX6_sign_12 ?_
    refine gk_aload_n (pc := 15) C.1 0 dX6_sign_15 rfl rfl ?_
    refine tk_getI (pc := 16) C (k := 43) (by decide) (by decide) q2164 rfl dX6_sign_16 ?_
    obtain ⟨hi, hw⟩ := hw
    refine tk_ald (pc := 19) C (k := 36) (by decide) hi dX6_sign_19 ?_
    refine gk_goto (pc := 20) (tgt := 24) C.1 dX6_sign_20 (by decide) ?_
    exact tk_iret (pc := 24) C hret dX6_sign_24 hw
/-! digit()I -/
def wt_digit (k : Int32 → TS → Prop) (u : TS) : Prop := wt_sign (fun r_2 u_1 => wt_isIn (fun r_4 u_3 => ((¬ r_4 = 0 → (∀ u_6 : TS, u_6 = tpI u_3 43 ((u_3.2 43) + 1) → (vp_in ((u_6.2 43) - 1) 96 ∧ (k ((u_6.1 36 ((u_6.2 43) - 1).toNatClampNeg) - 48) u_6)))) ∧ (r_4 = 0 → (k (-9) u_3)))) r_2 48 57 u_1) u
theorem wk_digit (l : Launch) {G : TG} (hG : TD G) {k : Int32 → TS → Prop} {u : TS} (hw : wt_digit k  u) : TMet l yX6_digit cX6_digit 1 (some .int) 2 G [.ref G.2.2.1] u (tI k) := by
  refine tk_met hG rfl (Nat.le_of_ble_eq_true rfl) (fun X hXl hXn hret C => ?_)
  subst hXl
  unfold wt_digit at hw
  refine GK.sub (lv' := [(0, .ref G.2.2.1)]) [0] rfl ?_
  refine gk_aload_n (pc := 0) C.1 0 dX6_digit_0 rfl rfl ?_
  refine tk_callV (pc := 1) (y := yX6_sign) (n := 0) (As := []) (rest := []) C (wk_sign (ev_l X) hG hw) q2319 q2321 qs72 q2322 ⟨rfl, by decide +kernel⟩ ⟨by decide, by decide⟩ rfl rfl (Nat.le_of_ble_eq_true rfl) dX6_digit_1 (fun v9 u_1 hp => ?_)
  obtain ⟨r_2, rfl, hw⟩ := hp
  refine GK.at (p2 := 4) rfl ?_
  refine gk_bipush (pc := 4) (v := 48) C.1 dX6_digit_4 (by decide) ?_
  refine gk_bipush (pc := 6) (v := 57) C.1 dX6_digit_6 (by decide) ?_
  refine tk_callS (pc := 8) (y := yX6_isIn) (n := 3) (As := [.int r_2, .int 48, .int 57]) (rest := []) C (wk_isIn (ev_l X) hG hw) q2323 q2324 q2325 ⟨rfl, by decide +kernel⟩ ⟨by decide, by decide⟩ rfl rfl (Nat.le_of_ble_eq_true rfl) dX6_digit_8 (fun v9 u_3 hp => ?_)
  obtain ⟨r_4, rfl, hw⟩ := hp
  refine GK.at (p2 := 11) rfl ?_
  refine gk_if_ne (pc := 11) (tgt := 17) C.1 dX6_digit_11 (by decide) (fun c_5 => ?_) (fun c_5 => ?_)
  · replace hw := hw.1 c_5
    refine gk_aload_n (pc := 17) C.1 0 dX6_digit_17 rfl rfl ?_
    refine gk_dup (pc := 18) C.1 dX6_digit_18 rfl ?_
    refine tk_getI (pc := 19) C (k := 43) (by decide) (by decide) q2164 rfl dX6_digit_19 ?_
    refine gk_iconst (pc := 22) (v := 1) C.1 dX6_digit_22 (by decide) ?_
    refine gk_iadd (pc := 23) C.1 dX6_digit_23 ?_
    refine tk_putI (pc := 24) C (k := 43) (by decide) (by decide) q2164 rfl rfl (ty := .int) rfl rfl rfl dX6_digit_24 (fun u_6 eu_6 => ?_)
    replace hw := hw u_6 eu_6
    refine gk_aload_n (pc := 27) C.1 0 dX6_digit_27 rfl rfl ?_
    refine tk_getA (pc := 28) C (k := 36) (by decide) (by decide) q2157 rfl dX6_digit_28 ?_
    refine gk_aload_n (pc := 31) C.1 0 dX6_digit_31 rfl rfl ?_
    refine tk_getI (pc := 32) C (k := 43) (by decide) (by decide) q2164 rfl dX6_digit_32 ?_
    refine gk_iconst (pc := 35) (v := 1) C.1 dX6_digit_35 (by decide) ?_
    refine gk_isub (pc := 36) C.1 dX6_digit_36 ?_
    obtain ⟨hi, hw⟩ := hw
    refine tk_ald (pc := 37) C (k := 36) (by decide) hi dX6_digit_37 ?_
    refine gk_bipush (pc := 38) (v := 48) C.1 dX6_digit_38 (by decide) ?_
    refine gk_isub (pc := 40) C.1 dX6_digit_40 ?_
    exact tk_iret (pc := 41) C hret dX6_digit_41 hw
  · replace hw := hw.2 c_5
    refine gk_bipush (pc := 14) (v := (-9)) C.1 dX6_digit_14 (by decide) ?_
    exact tk_iret (pc := 16) C hret dX6_digit_16 hw
/-! readsBounds(II)Z -/
def wt_readsBounds_80 (k : Int32 → TS → Prop) (J13 : Int32 → Int32 → Int32 → Int32 → Int32 → TS → Prop) (x1 : Int32) (x2 : Int32) (x3 : Int32) (x4 : Int32) (x5 : Int32) (u : TS) : Prop := ∀ x_1 : Int32, x_1 = x5 + 1 → (J13 x1 x2 x3 x4 x_1 u)
theorem kt_readsBounds_80 {X : Ev} {G : TG} {k : Int32 → TS → Prop} {J13 : Int32 → Int32 → Int32 → Int32 → Int32 → TS → Prop} (C : TC X G cX6_readsBounds 3) (hG : TD G) (hret : (ev_h X).sig.returnType = some .boolean) (hXn : ev_n X = 7) (hJ13 : ∀ (x1 : Int32) (x2 : Int32) (x3 : Int32) (x4 : Int32) (x5 : Int32) (u : TS), J13 x1 x2 x3 x4 x5 u → GK X (TP G u) 0 0 (tQ X G (tI k)) 13 [(0, .ref G.2.2.1), (1, .int x1), (2, .int x2), (3, .int x3), (4, .int x4), (5, .int x5)] []) : ∀ (x1 : Int32) (x2 : Int32) (x3 : Int32) (x4 : Int32) (x5 : Int32) (u : TS), wt_readsBounds_80 k J13 x1 x2 x3 x4 x5 u → GK X (TP G u) 0 0 (tQ X G (tI k)) 80 [(0, .ref G.2.2.1), (1, .int x1), (2, .int x2), (3, .int x3), (4, .int x4), (5, .int x5)] [] := by
  intro x1 x2 x3 x4 x5 u hw
  unfold wt_readsBounds_80 at hw
  obtain ⟨x_1, ex_1⟩ : ∃ z : Int32, z = x5 + 1 := ⟨_, rfl⟩
  replace hw := hw x_1 ex_1
  refine gk_iinc (pc := 80) (v := x_1) (lv' := [(5, Value.int x_1), (0, Value.ref G.2.2.1), (1, Value.int x1), (2, Value.int x2), (3, Value.int x3), (4, Value.int x4)]) C.1 5 dX6_readsBounds_80 rfl (by rw [ex_1]; rfl) (by rw [hXn]; decide) rfl ?_
  refine gk_goto (pc := 83) (tgt := 13) C.1 dX6_readsBounds_83 (by decide) ?_
  refine GK.sub (lv' := [(0, .ref G.2.2.1), (1, .int x1), (2, .int x2), (3, .int x3), (4, .int x4), (5, .int x_1)]) [1, 2, 3, 4, 5, 0] rfl ?_
  exact hJ13 _ _ _ _ _ _ hw
def wt_readsBounds_53 (k : Int32 → TS → Prop) (J13 : Int32 → Int32 → Int32 → Int32 → Int32 → TS → Prop) (x1 : Int32) (x2 : Int32) (x3 : Int32) (x5 : Int32) (s0 : Int32) (u : TS) : Prop := ((x2 ≤ x5 → (vp_in x1 25 ∧ (∀ u_2 : TS, u_2 = tpA u 9 x1.toNatClampNeg s0 → (wt_readsBounds_80 k J13 x1 x2 x3 s0 x5 u_2)))) ∧ (¬ x2 ≤ x5 → (vp_in x1 25 ∧ (∀ u_3 : TS, u_3 = tpA u 8 x1.toNatClampNeg s0 → (wt_readsBounds_80 k J13 x1 x2 x3 s0 x5 u_3)))))
theorem kt_readsBounds_53 {X : Ev} {G : TG} {k : Int32 → TS → Prop} {J13 : Int32 → Int32 → Int32 → Int32 → Int32 → TS → Prop} (C : TC X G cX6_readsBounds 3) (hG : TD G) (hret : (ev_h X).sig.returnType = some .boolean) (hXn : ev_n X = 7) (hJ13 : ∀ (x1 : Int32) (x2 : Int32) (x3 : Int32) (x4 : Int32) (x5 : Int32) (u : TS), J13 x1 x2 x3 x4 x5 u → GK X (TP G u) 0 0 (tQ X G (tI k)) 13 [(0, .ref G.2.2.1), (1, .int x1), (2, .int x2), (3, .int x3), (4, .int x4), (5, .int x5)] []) : ∀ (x1 : Int32) (x2 : Int32) (x3 : Int32) (x5 : Int32) (s0 : Int32) (u : TS), wt_readsBounds_53 k J13 x1 x2 x3 x5 s0 u → GK X (TP G u) 0 0 (tQ X G (tI k)) 53 [(0, .ref G.2.2.1), (1, .int x1), (2, .int x2), (3, .int x3), (5, .int x5)] [.int s0] := by
  intro x1 x2 x3 x5 s0 u hw
  unfold wt_readsBounds_53 at hw
  refine gk_istore (pc := 53) (lv' := [(4, Value.int s0), (0, Value.ref G.2.2.1), (1, Value.int x1), (2, Value.int x2), (3, Value.int x3), (5, Value.int x5)]) C.1 dX6_readsBounds_53 (by rw [hXn]; decide) rfl ?_
  refine gk_iload (pc := 55) C.1 5 dX6_readsBounds_55 rfl ?_
  refine gk_iload_n (pc := 57) C.1 3 dX6_readsBounds_57 rfl rfl ?_
  refine gk_icmp_ge (pc := 58) (tgt := 72) C.1 dX6_readsBounds_58 (by decide) (fun c_1 => ?_) (fun c_1 => ?_)
  · replace hw := hw.1 c_1
    refine gk_aload_n (pc := 72) C.1 1 dX6_readsBounds_72 rfl rfl ?_
    refine tk_getA (pc := 73) C (k := 9) (by decide) (by decide) q2130 rfl dX6_readsBounds_73 ?_
    refine gk_iload_n (pc := 76) C.1 2 dX6_readsBounds_76 rfl rfl ?_
    refine gk_iload (pc := 77) C.1 0 dX6_readsBounds_77 rfl ?_
    obtain ⟨hi, hw⟩ := hw
    refine tk_ast (pc := 79) C (k := 9) (by decide) hi dX6_readsBounds_79 (fun u_2 eu_2 => ?_)
    replace hw := hw u_2 eu_2
    refine GK.sub (lv' := [(0, .ref G.2.2.1), (1, .int x1), (2, .int x2), (3, .int x3), (4, .int s0), (5, .int x5)]) [1, 2, 3, 4, 0, 5] rfl ?_
    exact kt_readsBounds_80 C hG hret hXn hJ13 _ _ _ _ _ _ hw
  · replace hw := hw.2 c_1
    refine gk_aload_n (pc := 61) C.1 1 dX6_readsBounds_61 rfl rfl ?_
    refine tk_getA (pc := 62) C (k := 8) (by decide) (by decide) q2129 rfl dX6_readsBounds_62 ?_
    refine gk_iload_n (pc := 65) C.1 2 dX6_readsBounds_65 rfl rfl ?_
    refine gk_iload (pc := 66) C.1 0 dX6_readsBounds_66 rfl ?_
    obtain ⟨hi, hw⟩ := hw
    refine tk_ast (pc := 68) C (k := 8) (by decide) hi dX6_readsBounds_68 (fun u_3 eu_3 => ?_)
    replace hw := hw u_3 eu_3
    refine gk_goto (pc := 69) (tgt := 80) C.1 dX6_readsBounds_69 (by decide) ?_
    refine GK.sub (lv' := [(0, .ref G.2.2.1), (1, .int x1), (2, .int x2), (3, .int x3), (4, .int s0), (5, .int x5)]) [1, 2, 3, 4, 0, 5] rfl ?_
    exact kt_readsBounds_80 C hG hret hXn hJ13 _ _ _ _ _ _ hw
def wt_readsBounds_13 (k : Int32 → TS → Prop) : Nat → Int32 → Int32 → Int32 → Int32 → Int32 → TS → Prop
  | 0 => fun _ _ _ _ _ _ => False
  | n + 1 => fun x1 x2 x3 x4 x5 u => (((2 * x2) ≤ x5 → (vp_in x1 25 ∧ (vp_in x1 25 ∧ ((((u.1 8 x1.toNatClampNeg) ≤ (u.1 9 x1.toNatClampNeg) → (k 1 u)) ∧ (¬ (u.1 8 x1.toNatClampNeg) ≤ (u.1 9 x1.toNatClampNeg) → (wt_isBad (fun u_3 => k 1 u_3) x3 u))))))) ∧ (¬ (2 * x2) ≤ x5 → (wt_digit (fun r_5 u_4 => ((0 ≤ r_5 → (((¬ x5 = x2 → (wt_readsBounds_53 k (fun yx1 yx2 yx3 yx4 yx5 yu => wt_readsBounds_13 k n yx1 yx2 yx3 yx4 yx5 yu) x1 x2 x3 x5 ((10 * x4) + r_5) u_4)) ∧ (x5 = x2 → (wt_readsBounds_53 k (fun yx1 yx2 yx3 yx4 yx5 yu => wt_readsBounds_13 k n yx1 yx2 yx3 yx4 yx5 yu) x1 x2 x3 x5 r_5 u_4))))) ∧ (¬ 0 ≤ r_5 → (k 0 u_4)))) u)))
theorem kt_readsBounds_13 {X : Ev} {G : TG} {k : Int32 → TS → Prop} (C : TC X G cX6_readsBounds 3) (hG : TD G) (hret : (ev_h X).sig.returnType = some .boolean) (hXn : ev_n X = 7) : ∀ (n : Nat) (x1 : Int32) (x2 : Int32) (x3 : Int32) (x4 : Int32) (x5 : Int32) (u : TS), wt_readsBounds_13 k n x1 x2 x3 x4 x5 u → GK X (TP G u) 0 0 (tQ X G (tI k)) 13 [(0, .ref G.2.2.1), (1, .int x1), (2, .int x2), (3, .int x3), (4, .int x4), (5, .int x5)] [] := by
  intro n
  induction n with
  | zero => intro x1 x2 x3 x4 x5 u hw; exact hw.elim
  | succ n ih =>
  intro x1 x2 x3 x4 x5 u hw
  unfold wt_readsBounds_13 at hw
  refine gk_iload (pc := 13) C.1 5 dX6_readsBounds_13 rfl ?_
  refine gk_iconst (pc := 15) (v := 2) C.1 dX6_readsBounds_15 (by decide) ?_
  refine gk_iload_n (pc := 16) C.1 2 dX6_readsBounds_16 rfl rfl ?_
  refine gk_imul (pc := 17) C.1 dX6_readsBounds_17 ?_
  refine gk_icmp_ge (pc := 18) (tgt := 86) C.1 dX6_readsBounds_18 (by decide) (fun c_1 => ?_) (fun c_1 => ?_)
  · replace hw := hw.1 c_1
    refine gk_aload_n (pc := 86) C.1 0 dX6_readsBounds_86 rfl rfl ?_
    refine tk_getA (pc := 87) C (k := 8) (by decide) (by decide) q2129 rfl dX6_readsBounds_87 ?_
    refine gk_iload_n (pc := 90) C.1 1 dX6_readsBounds_90 rfl rfl ?_
    obtain ⟨hi, hw⟩ := hw
    refine tk_ald (pc := 91) C (k := 8) (by decide) hi dX6_readsBounds_91 ?_
    refine gk_aload_n (pc := 92) C.1 0 dX6_readsBounds_92 rfl rfl ?_
    refine tk_getA (pc := 93) C (k := 9) (by decide) (by decide) q2130 rfl dX6_readsBounds_93 ?_
    refine gk_iload_n (pc := 96) C.1 1 dX6_readsBounds_96 rfl rfl ?_
    obtain ⟨hi, hw⟩ := hw
    refine tk_ald (pc := 97) C (k := 9) (by decide) hi dX6_readsBounds_97 ?_
    refine gk_icmp_le (pc := 98) (tgt := 106) C.1 dX6_readsBounds_98 (by decide) (fun c_2 => ?_) (fun c_2 => ?_)
    · replace hw := hw.1 c_2
      refine gk_iconst (pc := 106) (v := 1) C.1 dX6_readsBounds_106 (by decide) ?_
      exact tk_zret (pc := 107) C hret dX6_readsBounds_107 bz1 hw
    · replace hw := hw.2 c_2
      refine gk_aload_n (pc := 101) C.1 0 dX6_readsBounds_101 rfl rfl ?_
      refine gk_iload_n (pc := 102) C.1 3 dX6_readsBounds_102 rfl rfl ?_
      refine tk_callV (pc := 103) (y := yX6_isBad) (n := 1) (As := [.int x3]) (rest := []) C (wk_isBad (ev_l X) hG hw) q2334 q2336 qs75 q2337 ⟨rfl, by decide +kernel⟩ ⟨by decide, by decide⟩ rfl rfl (Nat.le_of_ble_eq_true rfl) dX6_readsBounds_103 (fun v9 u_3 hp => ?_)
      obtain ⟨rfl, hw⟩ := hp
      refine GK.at (p2 := 106) rfl ?_
      refine gk_iconst (pc := 106) (v := 1) C.1 dX6_readsBounds_106 (by decide) ?_
      exact tk_zret (pc := 107) C hret dX6_readsBounds_107 bz1 hw
  · replace hw := hw.2 c_1
    refine gk_aload_n (pc := 21) C.1 0 dX6_readsBounds_21 rfl rfl ?_
    refine tk_callV (pc := 22) (y := yX6_digit) (n := 0) (As := []) (rest := []) C (wk_digit (ev_l X) hG hw) q2338 q2340 qs76 q2341 ⟨rfl, by decide +kernel⟩ ⟨by decide, by decide⟩ rfl rfl (Nat.le_of_ble_eq_true rfl) dX6_readsBounds_22 (fun v9 u_4 hp => ?_)
    obtain ⟨r_5, rfl, hw⟩ := hp
    refine GK.at (p2 := 25) rfl ?_
    refine gk_istore (pc := 25) (lv' := [(6, Value.int r_5), (0, Value.ref G.2.2.1), (1, Value.int x1), (2, Value.int x2), (3, Value.int x3), (4, Value.int x4), (5, Value.int x5)]) C.1 dX6_readsBounds_25 (by rw [hXn]; decide) rfl ?_
    refine gk_iload (pc := 27) C.1 0 dX6_readsBounds_27 rfl ?_
    refine gk_if_ge (pc := 29) (tgt := 34) C.1 dX6_readsBounds_29 (by decide) (fun c_6 => ?_) (fun c_6 => ?_)
    · replace hw := hw.1 c_6
      refine gk_iload (pc := 34) C.1 6 dX6_readsBounds_34 rfl ?_
      refine gk_iload_n (pc := 36) C.1 3 dX6_readsBounds_36 rfl rfl ?_
      refine gk_icmp_ne (pc := 37) (tgt := 45) C.1 dX6_readsBounds_37 (by decide) (fun c_7 => ?_) (fun c_7 => ?_)
      · replace hw := hw.1 c_7
        refine gk_bipush (pc := 45) (v := 10) C.1 dX6_readsBounds_45 (by decide) ?_
        refine gk_iload (pc := 47) C.1 5 dX6_readsBounds_47 rfl ?_
        refine gk_imul (pc := 49) C.1 dX6_readsBounds_49 ?_
        refine gk_iload (pc := 50) C.1 0 dX6_readsBounds_50 rfl ?_
        refine gk_iadd (pc := 52) C.1 dX6_readsBounds_52 ?_
        refine GK.sub (lv' := [(0, .ref G.2.2.1), (1, .int x1), (2, .int x2), (3, .int x3), (5, .int x5)]) [1, 2, 3, 4, 6] rfl ?_
        exact kt_readsBounds_53 C hG hret hXn ih _ _ _ _ _ _ hw
      · replace hw := hw.2 c_7
        refine gk_iload (pc := 40) C.1 0 dX6_readsBounds_40 rfl ?_
        refine gk_goto (pc := 42) (tgt := 53) C.1 dX6_readsBounds_42 (by decide) ?_
        refine GK.sub (lv' := [(0, .ref G.2.2.1), (1, .int x1), (2, .int x2), (3, .int x3), (5, .int x5)]) [1, 2, 3, 4, 6] rfl ?_
        exact kt_readsBounds_53 C hG hret hXn ih _ _ _ _ _ _ hw
    · replace hw := hw.2 c_6
      refine gk_iconst (pc := 32) (v := 0) C.1 dX6_readsBounds_32 (by decide) ?_
      exact tk_zret (pc := 33) C hret dX6_readsBounds_33 bz0 hw
def wt_readsBounds (k : Int32 → TS → Prop) (x1 : Int32) (x2 : Int32) (u : TS) : Prop := ∀ x_1 : Int32, x_1 = (u.2 43) - 1 → (∃ fu : Nat, wt_readsBounds_13 k fu x1 x2 x_1 0 0 u)
theorem wk_readsBounds (l : Launch) {G : TG} (hG : TD G) {k : Int32 → TS → Prop} {x1 : Int32} {x2 : Int32} {u : TS} (hw : wt_readsBounds k x1 x2 u) : TMet l yX6_readsBounds cX6_readsBounds 7 (some .boolean) 3 G [.ref G.2.2.1, .int x1, .int x2] u (tI k) := by
  refine tk_met hG rfl (Nat.le_of_ble_eq_true rfl) (fun X hXl hXn hret C => ?_)
  subst hXl
  unfold wt_readsBounds at hw
  refine GK.sub (lv' := [(0, .ref G.2.2.1), (1, .int x1), (2, .int x2)]) [0, 1, 2] rfl ?_
  refine gk_aload_n (pc := 0) C.1 0 dX6_readsBounds_0 rfl rfl ?_
  refine tk_getI (pc := 1) C (k := 43) (by decide) (by decide) q2164 rfl dX6_readsBounds_1 ?_
  refine gk_iconst (pc := 4) (v := 1) C.1 dX6_readsBounds_4 (by decide) ?_
  refine gk_isub (pc := 5) C.1 dX6_readsBounds_5 ?_
  obtain ⟨x_1, ex_1⟩ : ∃ z : Int32, z = (u.2 43) - 1 := ⟨_, rfl⟩
  rw [← ex_1]
  replace hw := hw x_1 ex_1
  refine gk_istore_n (pc := 6) (lv' := [(3, Value.int x_1), (0, Value.ref G.2.2.1), (1, Value.int x1), (2, Value.int x2)]) C.1 dX6_readsBounds_6 rfl (by rw [hXn]; decide) rfl ?_
  refine gk_iconst (pc := 7) (v := 0) C.1 dX6_readsBounds_7 (by decide) ?_
  refine gk_istore (pc := 8) (lv' := [(4, Value.int 0), (3, Value.int x_1), (0, Value.ref G.2.2.1), (1, Value.int x1), (2, Value.int x2)]) C.1 dX6_readsBounds_8 (by rw [hXn]; decide) rfl ?_
  refine gk_iconst (pc := 10) (v := 0) C.1 dX6_readsBounds_10 (by decide) ?_
  refine gk_istore (pc := 11) (lv' := [(5, Value.int 0), (4, Value.int 0), (3, Value.int x_1), (0, Value.ref G.2.2.1), (1, Value.int x1), (2, Value.int x2)]) C.1 dX6_readsBounds_11 (by rw [hXn]; decide) rfl ?_
  refine GK.sub (lv' := [(0, .ref G.2.2.1), (1, .int x1), (2, .int x2), (3, .int x_1), (4, .int 0), (5, .int 0)]) [3, 4, 5, 2, 1, 0] rfl ?_
  obtain ⟨n9, hw⟩ := hw
  exact kt_readsBounds_13 C hG hret hXn  n9 _ _ _ _ _ _ hw
/-! readsCheck()Z -/
def wt_readsCheck_122 (k : Int32 → TS → Prop) (x3 : Int32) (u : TS) : Prop := wt_endsCheck (fun u_1 => k 1 u_1) x3 u
theorem kt_readsCheck_122 {X : Ev} {G : TG} {k : Int32 → TS → Prop} (C : TC X G cX6_readsCheck 4) (hG : TD G) (hret : (ev_h X).sig.returnType = some .boolean) (hXn : ev_n X = 4) : ∀ (x3 : Int32) (u : TS), wt_readsCheck_122 k x3 u → GK X (TP G u) 0 0 (tQ X G (tI k)) 122 [(0, .ref G.2.2.1), (3, .int x3)] [] := by
  intro x3 u hw
  unfold wt_readsCheck_122 at hw
  refine gk_aload_n (pc := 122) C.1 0 dX6_readsCheck_122 rfl rfl ?_
  refine gk_iload_n (pc := 123) C.1 1 dX6_readsCheck_123 rfl rfl ?_
  refine tk_callV (pc := 124) (y := yX6_endsCheck) (n := 1) (As := [.int x3]) (rest := []) C (wk_endsCheck (ev_l X) hG hw) q2397 q2399 qs89 q2400 ⟨rfl, by decide +kernel⟩ ⟨by decide, by decide⟩ rfl rfl (Nat.le_of_ble_eq_true rfl) dX6_readsCheck_124 (fun v9 u_1 hp => ?_)
  obtain ⟨rfl, hw⟩ := hp
  refine GK.at (p2 := 127) rfl ?_
  refine gk_goto (pc := 127) (tgt := 137) C.1 dX6_readsCheck_127 (by decide) ?_
  refine gk_iconst (pc := 137) (v := 1) C.1 dX6_readsCheck_137 (by decide) ?_
  exact tk_zret (pc := 138) C hret dX6_readsCheck_138 bz1 hw
def wt_readsCheck_104 (k : Int32 → TS → Prop) (x1 : Int32) (x2 : Int32) (x3 : Int32) (u : TS) : Prop := ((x1 = 42 → (wt_readsCheck_122 k x3 u)) ∧ (¬ x1 = 42 → (((x1 = 35 → (wt_readsCheck_122 k x3 u)) ∧ (¬ x1 = 35 → (((¬ x1 = 94 → (wt_opens (fun u_4 => k 1 u_4) x3 x1 x2 u)) ∧ (x1 = 94 → (wt_readsCheck_122 k x3 u)))))))))
theorem kt_readsCheck_104 {X : Ev} {G : TG} {k : Int32 → TS → Prop} (C : TC X G cX6_readsCheck 4) (hG : TD G) (hret : (ev_h X).sig.returnType = some .boolean) (hXn : ev_n X = 4) : ∀ (x1 : Int32) (x2 : Int32) (x3 : Int32) (u : TS), wt_readsCheck_104 k x1 x2 x3 u → GK X (TP G u) 0 0 (tQ X G (tI k)) 104 [(0, .ref G.2.2.1), (1, .int x1), (2, .int x2), (3, .int x3)] [] := by
  intro x1 x2 x3 u hw
  unfold wt_readsCheck_104 at hw
  refine gk_iload_n (pc := 104) C.1 1 dX6_readsCheck_104 rfl rfl ?_
  refine gk_bipush (pc := 105) (v := 42) C.1 dX6_readsCheck_105 (by decide) ?_
  refine gk_icmp_eq (pc := 107) (tgt := 122) C.1 dX6_readsCheck_107 (by decide) (fun c_1 => ?_) (fun c_1 => ?_)
  · replace hw := hw.1 c_1
    refine GK.sub (lv' := [(0, .ref G.2.2.1), (3, .int x3)]) [0, 3] rfl ?_
    exact kt_readsCheck_122 C hG hret hXn  _ _ hw
  · replace hw := hw.2 c_1
    refine gk_iload_n (pc := 110) C.1 1 dX6_readsCheck_110 rfl rfl ?_
    refine gk_bipush (pc := 111) (v := 35) C.1 dX6_readsCheck_111 (by decide) ?_
    refine gk_icmp_eq (pc := 113) (tgt := 122) C.1 dX6_readsCheck_113 (by decide) (fun c_2 => ?_) (fun c_2 => ?_)
    · replace hw := hw.1 c_2
      refine GK.sub (lv' := [(0, .ref G.2.2.1), (3, .int x3)]) [0, 3] rfl ?_
      exact kt_readsCheck_122 C hG hret hXn  _ _ hw
    · replace hw := hw.2 c_2
      refine gk_iload_n (pc := 116) C.1 1 dX6_readsCheck_116 rfl rfl ?_
      refine gk_bipush (pc := 117) (v := 94) C.1 dX6_readsCheck_117 (by decide) ?_
      refine gk_icmp_ne (pc := 119) (tgt := 130) C.1 dX6_readsCheck_119 (by decide) (fun c_3 => ?_) (fun c_3 => ?_)
      · replace hw := hw.1 c_3
        refine gk_aload_n (pc := 130) C.1 0 dX6_readsCheck_130 rfl rfl ?_
        refine gk_iload_n (pc := 131) C.1 3 dX6_readsCheck_131 rfl rfl ?_
        refine gk_iload_n (pc := 132) C.1 1 dX6_readsCheck_132 rfl rfl ?_
        refine gk_iload_n (pc := 133) C.1 2 dX6_readsCheck_133 rfl rfl ?_
        refine tk_callV (pc := 134) (y := yX6_opens) (n := 3) (As := [.int x3, .int x1, .int x2]) (rest := []) C (wk_opens (ev_l X) hG hw) q2342 q2344 qs77 q2345 ⟨rfl, by decide +kernel⟩ ⟨by decide, by decide⟩ rfl rfl (Nat.le_of_ble_eq_true rfl) dX6_readsCheck_134 (fun v9 u_4 hp => ?_)
        obtain ⟨rfl, hw⟩ := hp
        refine GK.at (p2 := 137) rfl ?_
        refine gk_iconst (pc := 137) (v := 1) C.1 dX6_readsCheck_137 (by decide) ?_
        exact tk_zret (pc := 138) C hret dX6_readsCheck_138 bz1 hw
      · replace hw := hw.2 c_3
        refine GK.sub (lv' := [(0, .ref G.2.2.1), (3, .int x3)]) [0, 3] rfl ?_
        exact kt_readsCheck_122 C hG hret hXn  _ _ hw
def wt_readsCheck_87 (k : Int32 → TS → Prop) (x1 : Int32) (x2 : Int32) (x3 : Int32) (u : TS) : Prop := ((¬ x1 = 64 → (wt_readsCheck_104 k x1 x2 x3 u)) ∧ (x1 = 64 → (wt_readsBounds (fun r_3 u_2 => ((¬ r_3 = 0 → (wt_readsCheck_104 k x1 x2 x3 u_2)) ∧ (r_3 = 0 → (k 0 u_2)))) x3 1 u)))
theorem kt_readsCheck_87 {X : Ev} {G : TG} {k : Int32 → TS → Prop} (C : TC X G cX6_readsCheck 4) (hG : TD G) (hret : (ev_h X).sig.returnType = some .boolean) (hXn : ev_n X = 4) : ∀ (x1 : Int32) (x2 : Int32) (x3 : Int32) (u : TS), wt_readsCheck_87 k x1 x2 x3 u → GK X (TP G u) 0 0 (tQ X G (tI k)) 87 [(0, .ref G.2.2.1), (1, .int x1), (2, .int x2), (3, .int x3)] [] := by
  intro x1 x2 x3 u hw
  unfold wt_readsCheck_87 at hw
  refine gk_iload_n (pc := 87) C.1 1 dX6_readsCheck_87 rfl rfl ?_
  refine gk_bipush (pc := 88) (v := 64) C.1 dX6_readsCheck_88 (by decide) ?_
  refine gk_icmp_ne (pc := 90) (tgt := 104) C.1 dX6_readsCheck_90 (by decide) (fun c_1 => ?_) (fun c_1 => ?_)
  · replace hw := hw.1 c_1
    refine GK.sub (lv' := [(0, .ref G.2.2.1), (1, .int x1), (2, .int x2), (3, .int x3)]) [0, 1, 2, 3] rfl ?_
    exact kt_readsCheck_104 C hG hret hXn  _ _ _ _ hw
  · replace hw := hw.2 c_1
    refine gk_aload_n (pc := 93) C.1 0 dX6_readsCheck_93 rfl rfl ?_
    refine gk_iload_n (pc := 94) C.1 3 dX6_readsCheck_94 rfl rfl ?_
    refine gk_iconst (pc := 95) (v := 1) C.1 dX6_readsCheck_95 (by decide) ?_
    refine tk_callV (pc := 96) (y := yX6_readsBounds) (n := 2) (As := [.int x3, .int 1]) (rest := []) C (wk_readsBounds (ev_l X) hG hw) q2393 q2395 qs88 q2396 ⟨rfl, by decide +kernel⟩ ⟨by decide, by decide⟩ rfl rfl (Nat.le_of_ble_eq_true rfl) dX6_readsCheck_96 (fun v9 u_2 hp => ?_)
    obtain ⟨r_3, rfl, hw⟩ := hp
    refine GK.at (p2 := 99) rfl ?_
    refine gk_if_ne (pc := 99) (tgt := 104) C.1 dX6_readsCheck_99 (by decide) (fun c_4 => ?_) (fun c_4 => ?_)
    · replace hw := hw.1 c_4
      refine GK.sub (lv' := [(0, .ref G.2.2.1), (1, .int x1), (2, .int x2), (3, .int x3)]) [0, 1, 2, 3] rfl ?_
      exact kt_readsCheck_104 C hG hret hXn  _ _ _ _ hw
    · replace hw := hw.2 c_4
      refine gk_iconst (pc := 102) (v := 0) C.1 dX6_readsCheck_102 (by decide) ?_
      exact tk_zret (pc := 103) C hret dX6_readsCheck_103 bz0 hw
def wt_readsCheck_66 (k : Int32 → TS → Prop) (x1 : Int32) (x2 : Int32) (u : TS) : Prop := wt_beginsCheck (fun r_2 u_1 => ((¬ x1 = 35 → (wt_readsCheck_87 k x1 x2 r_2 u_1)) ∧ (x1 = 35 → (wt_readsBounds (fun r_5 u_4 => ((r_5 = 0 → (k 0 u_4)) ∧ (¬ r_5 = 0 → (wt_readsCheck_87 k x1 x2 r_2 u_4)))) r_2 2 u_1)))) x1 u
theorem kt_readsCheck_66 {X : Ev} {G : TG} {k : Int32 → TS → Prop} (C : TC X G cX6_readsCheck 4) (hG : TD G) (hret : (ev_h X).sig.returnType = some .boolean) (hXn : ev_n X = 4) : ∀ (x1 : Int32) (x2 : Int32) (u : TS), wt_readsCheck_66 k x1 x2 u → GK X (TP G u) 0 0 (tQ X G (tI k)) 66 [(0, .ref G.2.2.1), (1, .int x1), (2, .int x2)] [] := by
  intro x1 x2 u hw
  unfold wt_readsCheck_66 at hw
  refine gk_aload_n (pc := 66) C.1 0 dX6_readsCheck_66 rfl rfl ?_
  refine gk_iload_n (pc := 67) C.1 1 dX6_readsCheck_67 rfl rfl ?_
  refine tk_callV (pc := 68) (y := yX6_beginsCheck) (n := 1) (As := [.int x1]) (rest := []) C (wk_beginsCheck (ev_l X) hG hw) q2389 q2391 qs87 q2392 ⟨rfl, by decide +kernel⟩ ⟨by decide, by decide⟩ rfl rfl (Nat.le_of_ble_eq_true rfl) dX6_readsCheck_68 (fun v9 u_1 hp => ?_)
  obtain ⟨r_2, rfl, hw⟩ := hp
  refine GK.at (p2 := 71) rfl ?_
  refine gk_istore_n (pc := 71) (lv' := [(3, Value.int r_2), (0, Value.ref G.2.2.1), (1, Value.int x1), (2, Value.int x2)]) C.1 dX6_readsCheck_71 rfl (by rw [hXn]; decide) rfl ?_
  refine gk_iload_n (pc := 72) C.1 2 dX6_readsCheck_72 rfl rfl ?_
  refine gk_bipush (pc := 73) (v := 35) C.1 dX6_readsCheck_73 (by decide) ?_
  refine gk_icmp_ne (pc := 75) (tgt := 87) C.1 dX6_readsCheck_75 (by decide) (fun c_3 => ?_) (fun c_3 => ?_)
  · replace hw := hw.1 c_3
    refine GK.sub (lv' := [(0, .ref G.2.2.1), (1, .int x1), (2, .int x2), (3, .int r_2)]) [1, 2, 3, 0] rfl ?_
    exact kt_readsCheck_87 C hG hret hXn  _ _ _ _ hw
  · replace hw := hw.2 c_3
    refine gk_aload_n (pc := 78) C.1 1 dX6_readsCheck_78 rfl rfl ?_
    refine gk_iload_n (pc := 79) C.1 0 dX6_readsCheck_79 rfl rfl ?_
    refine gk_iconst (pc := 80) (v := 2) C.1 dX6_readsCheck_80 (by decide) ?_
    refine tk_callV (pc := 81) (y := yX6_readsBounds) (n := 2) (As := [.int r_2, .int 2]) (rest := []) C (wk_readsBounds (ev_l X) hG hw) q2393 q2395 qs88 q2396 ⟨rfl, by decide +kernel⟩ ⟨by decide, by decide⟩ rfl rfl (Nat.le_of_ble_eq_true rfl) dX6_readsCheck_81 (fun v9 u_4 hp => ?_)
    obtain ⟨r_5, rfl, hw⟩ := hp
    refine GK.at (p2 := 84) rfl ?_
    refine gk_if_eq (pc := 84) (tgt := 102) C.1 dX6_readsCheck_84 (by decide) (fun c_6 => ?_) (fun c_6 => ?_)
    · replace hw := hw.1 c_6
      refine gk_iconst (pc := 102) (v := 0) C.1 dX6_readsCheck_102 (by decide) ?_
      exact tk_zret (pc := 103) C hret dX6_readsCheck_103 bz0 hw
    · replace hw := hw.2 c_6
      refine GK.sub (lv' := [(0, .ref G.2.2.1), (1, .int x1), (2, .int x2), (3, .int r_2)]) [1, 2, 3, 0] rfl ?_
      exact kt_readsCheck_87 C hG hret hXn  _ _ _ _ hw
def wt_readsCheck (k : Int32 → TS → Prop) (u : TS) : Prop := wt_sign (fun r_2 u_1 => wt_isInside (fun r_4 u_3 => ((r_2 = 42 → (wt_readsCheck_66 k r_2 r_4 u_3)) ∧ (¬ r_2 = 42 → (((r_2 = 35 → (wt_readsCheck_66 k r_2 r_4 u_3)) ∧ (¬ r_2 = 35 → (((r_2 = 33 → (wt_readsCheck_66 k r_2 r_4 u_3)) ∧ (¬ r_2 = 33 → (((r_2 = 126 → (wt_readsCheck_66 k r_2 r_4 u_3)) ∧ (¬ r_2 = 126 → (((r_2 = 123 → (wt_readsCheck_66 k r_2 r_4 u_3)) ∧ (¬ r_2 = 123 → (((r_2 = 64 → (wt_readsCheck_66 k r_2 r_4 u_3)) ∧ (¬ r_2 = 64 → (((r_2 = 38 → (wt_readsCheck_66 k r_2 r_4 u_3)) ∧ (¬ r_2 = 38 → (((r_2 = 47 → (wt_readsCheck_66 k r_2 r_4 u_3)) ∧ (¬ r_2 = 47 → (((r_2 = 94 → (wt_readsCheck_66 k r_2 r_4 u_3)) ∧ (¬ r_2 = 94 → (k 0 u_3)))))))))))))))))))))))))))) u_1) u
theorem wk_readsCheck (l : Launch) {G : TG} (hG : TD G) {k : Int32 → TS → Prop} {u : TS} (hw : wt_readsCheck k  u) : TMet l yX6_readsCheck cX6_readsCheck 4 (some .boolean) 4 G [.ref G.2.2.1] u (tI k) := by
  refine tk_met hG rfl (Nat.le_of_ble_eq_true rfl) (fun X hXl hXn hret C => ?_)
  subst hXl
  unfold wt_readsCheck at hw
  refine GK.sub (lv' := [(0, .ref G.2.2.1)]) [0] rfl ?_
  refine gk_aload_n (pc := 0) C.1 0 dX6_readsCheck_0 rfl rfl ?_
  refine tk_callV (pc := 1) (y := yX6_sign) (n := 0) (As := []) (rest := []) C (wk_sign (ev_l X) hG hw) q2319 q2321 qs72 q2322 ⟨rfl, by decide +kernel⟩ ⟨by decide, by decide⟩ rfl rfl (Nat.le_of_ble_eq_true rfl) dX6_readsCheck_1 (fun v9 u_1 hp => ?_)
  obtain ⟨r_2, rfl, hw⟩ := hp
  refine GK.at (p2 := 4) rfl ?_
  refine gk_istore_n (pc := 4) (lv' := [(1, Value.int r_2), (0, Value.ref G.2.2.1)]) C.1 dX6_readsCheck_4 rfl (by rw [hXn]; decide) rfl ?_
  refine gk_aload_n (pc := 5) C.1 1 dX6_readsCheck_5 rfl rfl ?_
  refine tk_callV (pc := 6) (y := yX6_isInside) (n := 0) (As := []) (rest := []) C (wk_isInside (ev_l X) hG hw) q2385 q2387 qs86 q2388 ⟨rfl, by decide +kernel⟩ ⟨by decide, by decide⟩ rfl rfl (Nat.le_of_ble_eq_true rfl) dX6_readsCheck_6 (fun v9 u_3 hp => ?_)
  obtain ⟨r_4, rfl, hw⟩ := hp
  refine GK.at (p2 := 9) rfl ?_
  refine gk_istore_n (pc := 9) (lv' := [(2, Value.int r_4), (1, Value.int r_2), (0, Value.ref G.2.2.1)]) C.1 dX6_readsCheck_9 rfl (by rw [hXn]; decide) rfl ?_
  refine gk_iload_n (pc := 10) C.1 1 dX6_readsCheck_10 rfl rfl ?_
  refine gk_bipush (pc := 11) (v := 42) C.1 dX6_readsCheck_11 (by decide) ?_
  refine gk_icmp_eq (pc := 13) (tgt := 66) C.1 dX6_readsCheck_13 (by decide) (fun c_5 => ?_) (fun c_5 => ?_)
  · replace hw := hw.1 c_5
    refine GK.sub (lv' := [(0, .ref G.2.2.1), (1, .int r_2), (2, .int r_4)]) [2, 1, 0] rfl ?_
    exact kt_readsCheck_66 C hG hret hXn  _ _ _ hw
  · replace hw := hw.2 c_5
    refine gk_iload_n (pc := 16) C.1 1 dX6_readsCheck_16 rfl rfl ?_
    refine gk_bipush (pc := 17) (v := 35) C.1 dX6_readsCheck_17 (by decide) ?_
    refine gk_icmp_eq (pc := 19) (tgt := 66) C.1 dX6_readsCheck_19 (by decide) (fun c_6 => ?_) (fun c_6 => ?_)
    · replace hw := hw.1 c_6
      refine GK.sub (lv' := [(0, .ref G.2.2.1), (1, .int r_2), (2, .int r_4)]) [2, 1, 0] rfl ?_
      exact kt_readsCheck_66 C hG hret hXn  _ _ _ hw
    · replace hw := hw.2 c_6
      refine gk_iload_n (pc := 22) C.1 1 dX6_readsCheck_22 rfl rfl ?_
      refine gk_bipush (pc := 23) (v := 33) C.1 dX6_readsCheck_23 (by decide) ?_
      refine gk_icmp_eq (pc := 25) (tgt := 66) C.1 dX6_readsCheck_25 (by decide) (fun c_7 => ?_) (fun c_7 => ?_)
      · replace hw := hw.1 c_7
        refine GK.sub (lv' := [(0, .ref G.2.2.1), (1, .int r_2), (2, .int r_4)]) [2, 1, 0] rfl ?_
        exact kt_readsCheck_66 C hG hret hXn  _ _ _ hw
      · replace hw := hw.2 c_7
        refine gk_iload_n (pc := 28) C.1 1 dX6_readsCheck_28 rfl rfl ?_
        refine gk_bipush (pc := 29) (v := 126) C.1 dX6_readsCheck_29 (by decide) ?_
        refine gk_icmp_eq (pc := 31) (tgt := 66) C.1 dX6_readsCheck_31 (by decide) (fun c_8 => ?_) (fun c_8 => ?_)
        · replace hw := hw.1 c_8
          refine GK.sub (lv' := [(0, .ref G.2.2.1), (1, .int r_2), (2, .int r_4)]) [2, 1, 0] rfl ?_
          exact kt_readsCheck_66 C hG hret hXn  _ _ _ hw
        · replace hw := hw.2 c_8
          refine gk_iload_n (pc := 34) C.1 1 dX6_readsCheck_34 rfl rfl ?_
          refine gk_bipush (pc := 35) (v := 123) C.1 dX6_readsCheck_35 (by decide) ?_
          refine gk_icmp_eq (pc := 37) (tgt := 66) C.1 dX6_readsCheck_37 (by decide) (fun c_9 => ?_) (fun c_9 => ?_)
          · replace hw := hw.1 c_9
            refine GK.sub (lv' := [(0, .ref G.2.2.1), (1, .int r_2), (2, .int r_4)]) [2, 1, 0] rfl ?_
            exact kt_readsCheck_66 C hG hret hXn  _ _ _ hw
          · replace hw := hw.2 c_9
            refine gk_iload_n (pc := 40) C.1 1 dX6_readsCheck_40 rfl rfl ?_
            refine gk_bipush (pc := 41) (v := 64) C.1 dX6_readsCheck_41 (by decide) ?_
            refine gk_icmp_eq (pc := 43) (tgt := 66) C.1 dX6_readsCheck_43 (by decide) (fun c_10 => ?_) (fun c_10 => ?_)
            · replace hw := hw.1 c_10
              refine GK.sub (lv' := [(0, .ref G.2.2.1), (1, .int r_2), (2, .int r_4)]) [2, 1, 0] rfl ?_
              exact kt_readsCheck_66 C hG hret hXn  _ _ _ hw
            · replace hw := hw.2 c_10
              refine gk_iload_n (pc := 46) C.1 1 dX6_readsCheck_46 rfl rfl ?_
              refine gk_bipush (pc := 47) (v := 38) C.1 dX6_readsCheck_47 (by decide) ?_
              refine gk_icmp_eq (pc := 49) (tgt := 66) C.1 dX6_readsCheck_49 (by decide) (fun c_11 => ?_) (fun c_11 => ?_)
              · replace hw := hw.1 c_11
                refine GK.sub (lv' := [(0, .ref G.2.2.1), (1, .int r_2), (2, .int r_4)]) [2, 1, 0] rfl ?_
                exact kt_readsCheck_66 C hG hret hXn  _ _ _ hw
              · replace hw := hw.2 c_11
                refine gk_iload_n (pc := 52) C.1 1 dX6_readsCheck_52 rfl rfl ?_
                refine gk_bipush (pc := 53) (v := 47) C.1 dX6_readsCheck_53 (by decide) ?_
                refine gk_icmp_eq (pc := 55) (tgt := 66) C.1 dX6_readsCheck_55 (by decide) (fun c_12 => ?_) (fun c_12 => ?_)
                · replace hw := hw.1 c_12
                  refine GK.sub (lv' := [(0, .ref G.2.2.1), (1, .int r_2), (2, .int r_4)]) [2, 1, 0] rfl ?_
                  exact kt_readsCheck_66 C hG hret hXn  _ _ _ hw
                · replace hw := hw.2 c_12
                  refine gk_iload_n (pc := 58) C.1 1 dX6_readsCheck_58 rfl rfl ?_
                  refine gk_bipush (pc := 59) (v := 94) C.1 dX6_readsCheck_59 (by decide) ?_
                  refine gk_icmp_eq (pc := 61) (tgt := 66) C.1 dX6_readsCheck_61 (by decide) (fun c_13 => ?_) (fun c_13 => ?_)
                  · replace hw := hw.1 c_13
                    refine GK.sub (lv' := [(0, .ref G.2.2.1), (1, .int r_2), (2, .int r_4)]) [2, 1, 0] rfl ?_
                    exact kt_readsCheck_66 C hG hret hXn  _ _ _ hw
                  · replace hw := hw.2 c_13
                    refine gk_iconst (pc := 64) (v := 0) C.1 dX6_readsCheck_64 (by decide) ?_
                    exact tk_zret (pc := 65) C hret dX6_readsCheck_65 bz0 hw
/-! reads(I)Z -/
def wt_reads (k : Int32 → TS → Prop) (x1 : Int32) (u : TS) : Prop := wt_sign (fun r_2 u_1 => ((r_2 = x1 → (∀ u_4 : TS, u_4 = tpI u_1 43 ((u_1.2 43) + 1) → (k 1 u_4))) ∧ (¬ r_2 = x1 → (k 0 u_1)))) u
theorem wk_reads (l : Launch) {G : TG} (hG : TD G) {k : Int32 → TS → Prop} {x1 : Int32} {u : TS} (hw : wt_reads k x1 u) : TMet l yX6_reads cX6_reads 2 (some .boolean) 2 G [.ref G.2.2.1, .int x1] u (tI k) := by
  refine tk_met hG rfl (Nat.le_of_ble_eq_true rfl) (fun X hXl hXn hret C => ?_)
  subst hXl
  unfold wt_reads at hw
  refine GK.sub (lv' := [(0, .ref G.2.2.1), (1, .int x1)]) [0, 1] rfl ?_
  refine gk_aload_n (pc := 0) C.1 0 dX6_reads_0 rfl rfl ?_
  refine tk_callV (pc := 1) (y := yX6_sign) (n := 0) (As := []) (rest := []) C (wk_sign (ev_l X) hG hw) q2319 q2321 qs72 q2322 ⟨rfl, by decide +kernel⟩ ⟨by decide, by decide⟩ rfl rfl (Nat.le_of_ble_eq_true rfl) dX6_reads_1 (fun v9 u_1 hp => ?_)
  obtain ⟨r_2, rfl, hw⟩ := hp
  refine GK.at (p2 := 4) rfl ?_
  refine gk_iload_n (pc := 4) C.1 1 dX6_reads_4 rfl rfl ?_
  refine gk_icmp_eq (pc := 5) (tgt := 10) C.1 dX6_reads_5 (by decide) (fun c_3 => ?_) (fun c_3 => ?_)
  · replace hw := hw.1 c_3
    refine gk_aload_n (pc := 10) C.1 0 dX6_reads_10 rfl rfl ?_
    refine gk_dup (pc := 11) C.1 dX6_reads_11 rfl ?_
    refine tk_getI (pc := 12) C (k := 43) (by decide) (by decide) q2164 rfl dX6_reads_12 ?_
    refine gk_iconst (pc := 15) (v := 1) C.1 dX6_reads_15 (by decide) ?_
    refine gk_iadd (pc := 16) C.1 dX6_reads_16 ?_
    refine tk_putI (pc := 17) C (k := 43) (by decide) (by decide) q2164 rfl rfl (ty := .int) rfl rfl rfl dX6_reads_17 (fun u_4 eu_4 => ?_)
    replace hw := hw u_4 eu_4
    refine gk_iconst (pc := 20) (v := 1) C.1 dX6_reads_20 (by decide) ?_
    exact tk_zret (pc := 21) C hret dX6_reads_21 bz1 hw
  · replace hw := hw.2 c_3
    refine gk_iconst (pc := 8) (v := 0) C.1 dX6_reads_8 (by decide) ?_
    exact tk_zret (pc := 9) C hret dX6_reads_9 bz0 hw
/-! closesRecord()Z -/
def wt_closesRecord (k : Int32 → TS → Prop) (u : TS) : Prop := wt_reads (fun r_2 u_1 => ((¬ r_2 = 0 → (∀ u_4 : TS, u_4 = tpI u_1 45 ((u_1.2 45) - 1) → (vp_in (u_4.2 45) 100 ∧ (wt_endsCheck (fun u_5 => k 1 u_5) (u_4.1 37 (u_4.2 45).toNatClampNeg) u_4)))) ∧ (r_2 = 0 → (k 0 u_1)))) 125 u
theorem wk_closesRecord (l : Launch) {G : TG} (hG : TD G) {k : Int32 → TS → Prop} {u : TS} (hw : wt_closesRecord k  u) : TMet l yX6_closesRecord cX6_closesRecord 1 (some .boolean) 3 G [.ref G.2.2.1] u (tI k) := by
  refine tk_met hG rfl (Nat.le_of_ble_eq_true rfl) (fun X hXl hXn hret C => ?_)
  subst hXl
  unfold wt_closesRecord at hw
  refine GK.sub (lv' := [(0, .ref G.2.2.1)]) [0] rfl ?_
  refine gk_aload_n (pc := 0) C.1 0 dX6_closesRecord_0 rfl rfl ?_
  refine gk_bipush (pc := 1) (v := 125) C.1 dX6_closesRecord_1 (by decide) ?_
  refine tk_callV (pc := 3) (y := yX6_reads) (n := 1) (As := [.int 125]) (rest := []) C (wk_reads (ev_l X) hG hw) q2354 q2356 qs80 q2357 ⟨rfl, by decide +kernel⟩ ⟨by decide, by decide⟩ rfl rfl (Nat.le_of_ble_eq_true rfl) dX6_closesRecord_3 (fun v9 u_1 hp => ?_)
  obtain ⟨r_2, rfl, hw⟩ := hp
  refine GK.at (p2 := 6) rfl ?_
  refine gk_if_ne (pc := 6) (tgt := 11) C.1 dX6_closesRecord_6 (by decide) (fun c_3 => ?_) (fun c_3 => ?_)
  · replace hw := hw.1 c_3
    refine gk_aload_n (pc := 11) C.1 0 dX6_closesRecord_11 rfl rfl ?_
    refine gk_dup (pc := 12) C.1 dX6_closesRecord_12 rfl ?_
    refine tk_getI (pc := 13) C (k := 45) (by decide) (by decide) q2166 rfl dX6_closesRecord_13 ?_
    refine gk_iconst (pc := 16) (v := 1) C.1 dX6_closesRecord_16 (by decide) ?_
    refine gk_isub (pc := 17) C.1 dX6_closesRecord_17 ?_
    refine tk_putI (pc := 18) C (k := 45) (by decide) (by decide) q2166 rfl rfl (ty := .int) rfl rfl rfl dX6_closesRecord_18 (fun u_4 eu_4 => ?_)
    replace hw := hw u_4 eu_4
    refine gk_aload_n (pc := 21) C.1 0 dX6_closesRecord_21 rfl rfl ?_
    refine gk_aload_n (pc := 22) C.1 0 dX6_closesRecord_22 rfl rfl ?_
    refine tk_getA (pc := 23) C (k := 37) (by decide) (by decide) q2158 rfl dX6_closesRecord_23 ?_
    refine gk_aload_n (pc := 26) C.1 0 dX6_closesRecord_26 rfl rfl ?_
    refine tk_getI (pc := 27) C (k := 45) (by decide) (by decide) q2166 rfl dX6_closesRecord_27 ?_
    obtain ⟨hi, hw⟩ := hw
    refine tk_ald (pc := 30) C (k := 37) (by decide) hi dX6_closesRecord_30 ?_
    refine tk_callV (pc := 31) (y := yX6_endsCheck) (n := 1) (As := [.int (u_4.1 37 (u_4.2 45).toNatClampNeg)]) (rest := []) C (wk_endsCheck (ev_l X) hG hw) q2397 q2399 qs89 q2400 ⟨rfl, by decide +kernel⟩ ⟨by decide, by decide⟩ rfl rfl (Nat.le_of_ble_eq_true rfl) dX6_closesRecord_31 (fun v9 u_5 hp => ?_)
    obtain ⟨rfl, hw⟩ := hp
    refine GK.at (p2 := 34) rfl ?_
    refine gk_iconst (pc := 34) (v := 1) C.1 dX6_closesRecord_34 (by decide) ?_
    exact tk_zret (pc := 35) C hret dX6_closesRecord_35 bz1 hw
  · replace hw := hw.2 c_3
    refine gk_iconst (pc := 9) (v := 0) C.1 dX6_closesRecord_9 (by decide) ?_
    exact tk_zret (pc := 10) C hret dX6_closesRecord_10 bz0 hw
/-! has(II)Z -/
def wt_has (k : Int32 → TS → Prop) (x0 : Int32) (x1 : Int32) (u : TS) : Prop := ((¬ ((x0 >>> (x1 &&& 31)) &&& 1) = 1 → (k 0 u)) ∧ (((x0 >>> (x1 &&& 31)) &&& 1) = 1 → (k 1 u)))
theorem wk_has (l : Launch) {G : TG} (hG : TD G) {k : Int32 → TS → Prop} {x0 : Int32} {x1 : Int32} {u : TS} (hw : wt_has k x0 x1 u) : TMet l yX6_has cX6_has 2 (some .boolean) 1 G [.int x0, .int x1] u (tI k) := by
  refine tk_met hG rfl (Nat.le_of_ble_eq_true rfl) (fun X hXl hXn hret C => ?_)
  subst hXl
  unfold wt_has at hw
  refine GK.sub (lv' := [(0, .int x0), (1, .int x1)]) [0, 1] rfl ?_
  refine gk_iload_n (pc := 0) C.1 0 dX6_has_0 rfl rfl ?_
  refine gk_iload_n (pc := 1) C.1 1 dX6_has_1 rfl rfl ?_
  refine gk_ishr (pc := 2) C.1 dX6_has_2 ?_
  refine gk_iconst (pc := 3) (v := 1) C.1 dX6_has_3 (by decide) ?_
  refine gk_iand (pc := 4) C.1 dX6_has_4 ?_
  refine gk_iconst (pc := 5) (v := 1) C.1 dX6_has_5 (by decide) ?_
  refine gk_icmp_ne (pc := 6) (tgt := 13) C.1 dX6_has_6 (by decide) (fun c_1 => ?_) (fun c_1 => ?_)
  · replace hw := hw.1 c_1
    refine gk_iconst (pc := 13) (v := 0) C.1 dX6_has_13 (by decide) ?_
    exact tk_zret (pc := 14) C hret dX6_has_14 bz0 hw
  · replace hw := hw.2 c_1
    refine gk_iconst (pc := 9) (v := 1) C.1 dX6_has_9 (by decide) ?_
    refine gk_goto (pc := 10) (tgt := 14) C.1 dX6_has_10 (by decide) ?_
    exact tk_zret (pc := 14) C hret dX6_has_14 bz1 hw
/-! nameNow()I -/
def wt_nameNow (k : Int32 → TS → Prop) (u : TS) : Prop := wt_sign (fun r_2 u_1 => wt_isIn (fun r_4 u_3 => ((¬ r_4 = 0 → (∀ u_6 : TS, u_6 = tpI u_3 43 ((u_3.2 43) + 1) → (vp_in ((u_6.2 43) - 1) 96 ∧ (k (((u_6.1 36 ((u_6.2 43) - 1).toNatClampNeg) - 97) + 1) u_6)))) ∧ (r_4 = 0 → (k (-9) u_3)))) r_2 97 101 u_1) u
theorem wk_nameNow (l : Launch) {G : TG} (hG : TD G) {k : Int32 → TS → Prop} {u : TS} (hw : wt_nameNow k  u) : TMet l yX6_nameNow cX6_nameNow 1 (some .int) 2 G [.ref G.2.2.1] u (tI k) := by
  refine tk_met hG rfl (Nat.le_of_ble_eq_true rfl) (fun X hXl hXn hret C => ?_)
  subst hXl
  unfold wt_nameNow at hw
  refine GK.sub (lv' := [(0, .ref G.2.2.1)]) [0] rfl ?_
  refine gk_aload_n (pc := 0) C.1 0 dX6_nameNow_0 rfl rfl ?_
  refine tk_callV (pc := 1) (y := yX6_sign) (n := 0) (As := []) (rest := []) C (wk_sign (ev_l X) hG hw) q2319 q2321 qs72 q2322 ⟨rfl, by decide +kernel⟩ ⟨by decide, by decide⟩ rfl rfl (Nat.le_of_ble_eq_true rfl) dX6_nameNow_1 (fun v9 u_1 hp => ?_)
  obtain ⟨r_2, rfl, hw⟩ := hp
  refine GK.at (p2 := 4) rfl ?_
  refine gk_bipush (pc := 4) (v := 97) C.1 dX6_nameNow_4 (by decide) ?_
  refine gk_bipush (pc := 6) (v := 101) C.1 dX6_nameNow_6 (by decide) ?_
  refine tk_callS (pc := 8) (y := yX6_isIn) (n := 3) (As := [.int r_2, .int 97, .int 101]) (rest := []) C (wk_isIn (ev_l X) hG hw) q2323 q2324 q2325 ⟨rfl, by decide +kernel⟩ ⟨by decide, by decide⟩ rfl rfl (Nat.le_of_ble_eq_true rfl) dX6_nameNow_8 (fun v9 u_3 hp => ?_)
  obtain ⟨r_4, rfl, hw⟩ := hp
  refine GK.at (p2 := 11) rfl ?_
  refine gk_if_ne (pc := 11) (tgt := 17) C.1 dX6_nameNow_11 (by decide) (fun c_5 => ?_) (fun c_5 => ?_)
  · replace hw := hw.1 c_5
    refine gk_aload_n (pc := 17) C.1 0 dX6_nameNow_17 rfl rfl ?_
    refine gk_dup (pc := 18) C.1 dX6_nameNow_18 rfl ?_
    refine tk_getI (pc := 19) C (k := 43) (by decide) (by decide) q2164 rfl dX6_nameNow_19 ?_
    refine gk_iconst (pc := 22) (v := 1) C.1 dX6_nameNow_22 (by decide) ?_
    refine gk_iadd (pc := 23) C.1 dX6_nameNow_23 ?_
    refine tk_putI (pc := 24) C (k := 43) (by decide) (by decide) q2164 rfl rfl (ty := .int) rfl rfl rfl dX6_nameNow_24 (fun u_6 eu_6 => ?_)
    replace hw := hw u_6 eu_6
    refine gk_aload_n (pc := 27) C.1 0 dX6_nameNow_27 rfl rfl ?_
    refine tk_getA (pc := 28) C (k := 36) (by decide) (by decide) q2157 rfl dX6_nameNow_28 ?_
    refine gk_aload_n (pc := 31) C.1 0 dX6_nameNow_31 rfl rfl ?_
    refine tk_getI (pc := 32) C (k := 43) (by decide) (by decide) q2164 rfl dX6_nameNow_32 ?_
    refine gk_iconst (pc := 35) (v := 1) C.1 dX6_nameNow_35 (by decide) ?_
    refine gk_isub (pc := 36) C.1 dX6_nameNow_36 ?_
    obtain ⟨hi, hw⟩ := hw
    refine tk_ald (pc := 37) C (k := 36) (by decide) hi dX6_nameNow_37 ?_
    refine gk_bipush (pc := 38) (v := 97) C.1 dX6_nameNow_38 (by decide) ?_
    refine gk_isub (pc := 40) C.1 dX6_nameNow_40 ?_
    refine gk_iconst (pc := 41) (v := 1) C.1 dX6_nameNow_41 (by decide) ?_
    refine gk_iadd (pc := 42) C.1 dX6_nameNow_42 ?_
    exact tk_iret (pc := 43) C hret dX6_nameNow_43 hw
  · replace hw := hw.2 c_5
    refine gk_bipush (pc := 14) (v := (-9)) C.1 dX6_nameNow_14 (by decide) ?_
    exact tk_iret (pc := 16) C hret dX6_nameNow_16 hw
/-! readsCheckField()Z -/
def wt_readsCheckField_89 (k : Int32 → TS → Prop) (x2 : Int32) (x3 : Int32) (x4 : Int32) (s0 : Int32) (u : TS) : Prop := vp_in x4 100 ∧ (vp_in s0 25 ∧ (∀ u_1 : TS, u_1 = tpA u 12 s0.toNatClampNeg (u.1 37 x4.toNatClampNeg) → (vp_in s0 25 ∧ (∀ u_2 : TS, u_2 = tpA u_1 13 s0.toNatClampNeg x3 → (vp_in s0 25 ∧ (∀ u_3 : TS, u_3 = tpA u_2 14 s0.toNatClampNeg x2 → (vp_in x4 100 ∧ (∀ u_4 : TS, u_4 = tpA u_3 40 x4.toNatClampNeg s0 → (∀ u_5 : TS, u_5 = tpI u_4 21 ((u_4.2 21) + 1) → (wt_readsCheck (fun r_7 u_6 => bz r_7 ∧ k r_7 u_6) u_5))))))))))
theorem kt_readsCheckField_89 {X : Ev} {G : TG} {k : Int32 → TS → Prop} (C : TC X G cX6_readsCheckField 5) (hG : TD G) (hret : (ev_h X).sig.returnType = some .boolean) (hXn : ev_n X = 6) : ∀ (x2 : Int32) (x3 : Int32) (x4 : Int32) (s0 : Int32) (u : TS), wt_readsCheckField_89 k x2 x3 x4 s0 u → GK X (TP G u) 0 0 (tQ X G (tI k)) 89 [(0, .ref G.2.2.1), (2, .int x2), (3, .int x3), (4, .int x4)] [.int s0] := by
  intro x2 x3 x4 s0 u hw
  unfold wt_readsCheckField_89 at hw
  refine gk_istore (pc := 89) (lv' := [(5, Value.int s0), (0, Value.ref G.2.2.1), (2, Value.int x2), (3, Value.int x3), (4, Value.int x4)]) C.1 dX6_readsCheckField_89 (by rw [hXn]; decide) rfl ?_
  refine gk_aload_n (pc := 91) C.1 1 dX6_readsCheckField_91 rfl rfl ?_
  refine tk_getA (pc := 92) C (k := 12) (by decide) (by decide) q2133 rfl dX6_readsCheckField_92 ?_
  refine gk_iload (pc := 95) C.1 0 dX6_readsCheckField_95 rfl ?_
  refine gk_aload_n (pc := 97) C.1 1 dX6_readsCheckField_97 rfl rfl ?_
  refine tk_getA (pc := 98) C (k := 37) (by decide) (by decide) q2158 rfl dX6_readsCheckField_98 ?_
  refine gk_iload (pc := 101) C.1 4 dX6_readsCheckField_101 rfl ?_
  obtain ⟨hi, hw⟩ := hw
  refine tk_ald (pc := 103) C (k := 37) (by decide) hi dX6_readsCheckField_103 ?_
  obtain ⟨hi, hw⟩ := hw
  refine tk_ast (pc := 104) C (k := 12) (by decide) hi dX6_readsCheckField_104 (fun u_1 eu_1 => ?_)
  replace hw := hw u_1 eu_1
  refine gk_aload_n (pc := 105) C.1 1 dX6_readsCheckField_105 rfl rfl ?_
  refine tk_getA (pc := 106) C (k := 13) (by decide) (by decide) q2134 rfl dX6_readsCheckField_106 ?_
  refine gk_iload (pc := 109) C.1 0 dX6_readsCheckField_109 rfl ?_
  refine gk_iload_n (pc := 111) C.1 3 dX6_readsCheckField_111 rfl rfl ?_
  obtain ⟨hi, hw⟩ := hw
  refine tk_ast (pc := 112) C (k := 13) (by decide) hi dX6_readsCheckField_112 (fun u_2 eu_2 => ?_)
  replace hw := hw u_2 eu_2
  refine gk_aload_n (pc := 113) C.1 1 dX6_readsCheckField_113 rfl rfl ?_
  refine tk_getA (pc := 114) C (k := 14) (by decide) (by decide) q2135 rfl dX6_readsCheckField_114 ?_
  refine gk_iload (pc := 117) C.1 0 dX6_readsCheckField_117 rfl ?_
  refine gk_iload_n (pc := 119) C.1 2 dX6_readsCheckField_119 rfl rfl ?_
  obtain ⟨hi, hw⟩ := hw
  refine tk_ast (pc := 120) C (k := 14) (by decide) hi dX6_readsCheckField_120 (fun u_3 eu_3 => ?_)
  replace hw := hw u_3 eu_3
  refine gk_aload_n (pc := 121) C.1 1 dX6_readsCheckField_121 rfl rfl ?_
  refine tk_getA (pc := 122) C (k := 40) (by decide) (by decide) q2161 rfl dX6_readsCheckField_122 ?_
  refine gk_iload (pc := 125) C.1 4 dX6_readsCheckField_125 rfl ?_
  refine gk_iload (pc := 127) C.1 0 dX6_readsCheckField_127 rfl ?_
  obtain ⟨hi, hw⟩ := hw
  refine tk_ast (pc := 129) C (k := 40) (by decide) hi dX6_readsCheckField_129 (fun u_4 eu_4 => ?_)
  replace hw := hw u_4 eu_4
  refine gk_aload_n (pc := 130) C.1 1 dX6_readsCheckField_130 rfl rfl ?_
  refine gk_dup (pc := 131) C.1 dX6_readsCheckField_131 rfl ?_
  refine tk_getI (pc := 132) C (k := 21) (by decide) (by decide) q2142 rfl dX6_readsCheckField_132 ?_
  refine gk_iconst (pc := 135) (v := 1) C.1 dX6_readsCheckField_135 (by decide) ?_
  refine gk_iadd (pc := 136) C.1 dX6_readsCheckField_136 ?_
  refine tk_putI (pc := 137) C (k := 21) (by decide) (by decide) q2142 rfl rfl (ty := .int) rfl rfl rfl dX6_readsCheckField_137 (fun u_5 eu_5 => ?_)
  replace hw := hw u_5 eu_5
  refine gk_aload_n (pc := 140) C.1 1 dX6_readsCheckField_140 rfl rfl ?_
  refine tk_callV (pc := 141) (y := yX6_readsCheck) (n := 0) (As := []) (rest := []) C (wk_readsCheck (ev_l X) hG hw) q2381 q2383 qs85 q2384 ⟨rfl, by decide +kernel⟩ ⟨by decide, by decide⟩ rfl rfl (Nat.le_of_ble_eq_true rfl) dX6_readsCheckField_141 (fun v9 u_6 hp => ?_)
  obtain ⟨r_7, rfl, hw⟩ := hp
  refine GK.at (p2 := 144) rfl ?_
  obtain ⟨hz, hw⟩ := hw
  exact tk_zret (pc := 144) C hret dX6_readsCheckField_144 hz hw
def wt_readsCheckField_58 (k : Int32 → TS → Prop) (x2 : Int32) (x3 : Int32) (x4 : Int32) (u : TS) : Prop := vp_in x4 100 ∧ (vp_in x4 100 ∧ (∀ u_1 : TS, u_1 = tpA u 39 x4.toNatClampNeg ((u.1 39 x4.toNatClampNeg) ||| (1 <<< (x3 &&& 31))) → (((24 ≤ (u_1.2 21) → (wt_readsCheckField_89 k x2 x3 x4 24 u_1)) ∧ (¬ 24 ≤ (u_1.2 21) → (wt_readsCheckField_89 k x2 x3 x4 (u_1.2 21) u_1))))))
theorem kt_readsCheckField_58 {X : Ev} {G : TG} {k : Int32 → TS → Prop} (C : TC X G cX6_readsCheckField 5) (hG : TD G) (hret : (ev_h X).sig.returnType = some .boolean) (hXn : ev_n X = 6) : ∀ (x2 : Int32) (x3 : Int32) (x4 : Int32) (u : TS), wt_readsCheckField_58 k x2 x3 x4 u → GK X (TP G u) 0 0 (tQ X G (tI k)) 58 [(0, .ref G.2.2.1), (2, .int x2), (3, .int x3), (4, .int x4)] [] := by
  intro x2 x3 x4 u hw
  unfold wt_readsCheckField_58 at hw
  refine gk_aload_n (pc := 58) C.1 0 dX6_readsCheckField_58 rfl rfl ?_
  refine tk_getA (pc := 59) C (k := 39) (by decide) (by decide) q2160 rfl dX6_readsCheckField_59 ?_
  refine gk_iload (pc := 62) C.1 3 dX6_readsCheckField_62 rfl ?_
  refine gk_dup2 (pc := 64) C.1 dX6_readsCheckField_64 rfl rfl ?_
  obtain ⟨hi, hw⟩ := hw
  refine tk_ald (pc := 65) C (k := 39) (by decide) hi dX6_readsCheckField_65 ?_
  refine gk_iconst (pc := 66) (v := 1) C.1 dX6_readsCheckField_66 (by decide) ?_
  refine gk_iload_n (pc := 67) C.1 2 dX6_readsCheckField_67 rfl rfl ?_
  refine gk_ishl (pc := 68) C.1 dX6_readsCheckField_68 ?_
  refine gk_ior (pc := 69) C.1 dX6_readsCheckField_69 ?_
  obtain ⟨hi, hw⟩ := hw
  refine tk_ast (pc := 70) C (k := 39) (by decide) hi dX6_readsCheckField_70 (fun u_1 eu_1 => ?_)
  replace hw := hw u_1 eu_1
  refine gk_aload_n (pc := 71) C.1 0 dX6_readsCheckField_71 rfl rfl ?_
  refine tk_getI (pc := 72) C (k := 21) (by decide) (by decide) q2142 rfl dX6_readsCheckField_72 ?_
  refine gk_bipush (pc := 75) (v := 24) C.1 dX6_readsCheckField_75 (by decide) ?_
  refine gk_icmp_ge (pc := 77) (tgt := 87) C.1 dX6_readsCheckField_77 (by decide) (fun c_2 => ?_) (fun c_2 => ?_)
  · replace hw := hw.1 c_2
    refine gk_bipush (pc := 87) (v := 24) C.1 dX6_readsCheckField_87 (by decide) ?_
    refine GK.sub (lv' := [(0, .ref G.2.2.1), (2, .int x2), (3, .int x3), (4, .int x4)]) [0, 1, 2, 3] rfl ?_
    exact kt_readsCheckField_89 C hG hret hXn  _ _ _ _ _ hw
  · replace hw := hw.2 c_2
    refine gk_aload_n (pc := 80) C.1 0 dX6_readsCheckField_80 rfl rfl ?_
    refine tk_getI (pc := 81) C (k := 21) (by decide) (by decide) q2142 rfl dX6_readsCheckField_81 ?_
    refine gk_goto (pc := 84) (tgt := 89) C.1 dX6_readsCheckField_84 (by decide) ?_
    refine GK.sub (lv' := [(0, .ref G.2.2.1), (2, .int x2), (3, .int x3), (4, .int x4)]) [0, 1, 2, 3] rfl ?_
    exact kt_readsCheckField_89 C hG hret hXn  _ _ _ _ _ hw
def wt_readsCheckField_19 (k : Int32 → TS → Prop) (x1 : Int32) (s0 : Int32) (u : TS) : Prop := wt_nameNow (fun r_2 u_1 => ((0 ≤ r_2 → (∀ x_4 : Int32, x_4 = (u_1.2 45) - 1 → (vp_in x_4 100 ∧ (wt_has (fun r_6 u_5 => ((r_6 = 0 → (wt_readsCheckField_58 k s0 r_2 x_4 u_5)) ∧ (¬ r_6 = 0 → (wt_isBad (fun u_8 => wt_readsCheckField_58 k s0 r_2 x_4 u_8) x1 u_5)))) (u_1.1 39 x_4.toNatClampNeg) r_2 u_1)))) ∧ (¬ 0 ≤ r_2 → (k 0 u_1)))) u
theorem kt_readsCheckField_19 {X : Ev} {G : TG} {k : Int32 → TS → Prop} (C : TC X G cX6_readsCheckField 5) (hG : TD G) (hret : (ev_h X).sig.returnType = some .boolean) (hXn : ev_n X = 6) : ∀ (x1 : Int32) (s0 : Int32) (u : TS), wt_readsCheckField_19 k x1 s0 u → GK X (TP G u) 0 0 (tQ X G (tI k)) 19 [(0, .ref G.2.2.1), (1, .int x1)] [.int s0] := by
  intro x1 s0 u hw
  unfold wt_readsCheckField_19 at hw
  refine gk_istore_n (pc := 19) (lv' := [(2, Value.int s0), (0, Value.ref G.2.2.1), (1, Value.int x1)]) C.1 dX6_readsCheckField_19 rfl (by rw [hXn]; decide) rfl ?_
  refine gk_aload_n (pc := 20) C.1 1 dX6_readsCheckField_20 rfl rfl ?_
  refine tk_callV (pc := 21) (y := yX6_nameNow) (n := 0) (As := []) (rest := []) C (wk_nameNow (ev_l X) hG hw) q2362 q2364 qs82 q2365 ⟨rfl, by decide +kernel⟩ ⟨by decide, by decide⟩ rfl rfl (Nat.le_of_ble_eq_true rfl) dX6_readsCheckField_21 (fun v9 u_1 hp => ?_)
  obtain ⟨r_2, rfl, hw⟩ := hp
  refine GK.at (p2 := 24) rfl ?_
  refine gk_istore_n (pc := 24) (lv' := [(3, Value.int r_2), (2, Value.int s0), (0, Value.ref G.2.2.1), (1, Value.int x1)]) C.1 dX6_readsCheckField_24 rfl (by rw [hXn]; decide) rfl ?_
  refine gk_iload_n (pc := 25) C.1 0 dX6_readsCheckField_25 rfl rfl ?_
  refine gk_if_ge (pc := 26) (tgt := 31) C.1 dX6_readsCheckField_26 (by decide) (fun c_3 => ?_) (fun c_3 => ?_)
  · replace hw := hw.1 c_3
    refine gk_aload_n (pc := 31) C.1 2 dX6_readsCheckField_31 rfl rfl ?_
    refine tk_getI (pc := 32) C (k := 45) (by decide) (by decide) q2166 rfl dX6_readsCheckField_32 ?_
    refine gk_iconst (pc := 35) (v := 1) C.1 dX6_readsCheckField_35 (by decide) ?_
    refine gk_isub (pc := 36) C.1 dX6_readsCheckField_36 ?_
    obtain ⟨x_4, ex_4⟩ : ∃ z : Int32, z = (u_1.2 45) - 1 := ⟨_, rfl⟩
    rw [← ex_4]
    replace hw := hw x_4 ex_4
    refine gk_istore (pc := 37) (lv' := [(4, Value.int x_4), (3, Value.int r_2), (2, Value.int s0), (0, Value.ref G.2.2.1), (1, Value.int x1)]) C.1 dX6_readsCheckField_37 (by rw [hXn]; decide) rfl ?_
    refine gk_aload_n (pc := 39) C.1 3 dX6_readsCheckField_39 rfl rfl ?_
    refine tk_getA (pc := 40) C (k := 39) (by decide) (by decide) q2160 rfl dX6_readsCheckField_40 ?_
    refine gk_iload (pc := 43) C.1 0 dX6_readsCheckField_43 rfl ?_
    obtain ⟨hi, hw⟩ := hw
    refine tk_ald (pc := 45) C (k := 39) (by decide) hi dX6_readsCheckField_45 ?_
    refine gk_iload_n (pc := 46) C.1 1 dX6_readsCheckField_46 rfl rfl ?_
    refine tk_callS (pc := 47) (y := yX6_has) (n := 2) (As := [.int (u_1.1 39 x_4.toNatClampNeg), .int r_2]) (rest := []) C (wk_has (ev_l X) hG hw) q2366 q2367 q2368 ⟨rfl, by decide +kernel⟩ ⟨by decide, by decide⟩ rfl rfl (Nat.le_of_ble_eq_true rfl) dX6_readsCheckField_47 (fun v9 u_5 hp => ?_)
    obtain ⟨r_6, rfl, hw⟩ := hp
    refine GK.at (p2 := 50) rfl ?_
    refine gk_if_eq (pc := 50) (tgt := 58) C.1 dX6_readsCheckField_50 (by decide) (fun c_7 => ?_) (fun c_7 => ?_)
    · replace hw := hw.1 c_7
      refine GK.sub (lv' := [(0, .ref G.2.2.1), (2, .int s0), (3, .int r_2), (4, .int x_4)]) [3, 2, 1, 0] rfl ?_
      exact kt_readsCheckField_58 C hG hret hXn  _ _ _ _ hw
    · replace hw := hw.2 c_7
      refine gk_aload_n (pc := 53) C.1 3 dX6_readsCheckField_53 rfl rfl ?_
      refine gk_iload_n (pc := 54) C.1 4 dX6_readsCheckField_54 rfl rfl ?_
      refine tk_callV (pc := 55) (y := yX6_isBad) (n := 1) (As := [.int x1]) (rest := []) C (wk_isBad (ev_l X) hG hw) q2334 q2336 qs75 q2337 ⟨rfl, by decide +kernel⟩ ⟨by decide, by decide⟩ rfl rfl (Nat.le_of_ble_eq_true rfl) dX6_readsCheckField_55 (fun v9 u_8 hp => ?_)
      obtain ⟨rfl, hw⟩ := hp
      refine GK.at (p2 := 58) rfl ?_
      refine GK.sub (lv' := [(0, .ref G.2.2.1), (2, .int s0), (3, .int r_2), (4, .int x_4)]) [3, 2, 1, 0] rfl ?_
      exact kt_readsCheckField_58 C hG hret hXn  _ _ _ _ hw
  · replace hw := hw.2 c_3
    refine gk_iconst (pc := 29) (v := 0) C.1 dX6_readsCheckField_29 (by decide) ?_
    exact tk_zret (pc := 30) C hret dX6_readsCheckField_30 bz0 hw
def wt_readsCheckField (k : Int32 → TS → Prop) (u : TS) : Prop := ∀ x_1 : Int32, x_1 = u.2 43 → (wt_reads (fun r_3 u_2 => ((r_3 = 0 → (wt_readsCheckField_19 k x_1 0 u_2)) ∧ (¬ r_3 = 0 → (wt_readsCheckField_19 k x_1 1 u_2)))) 46 u)
theorem wk_readsCheckField (l : Launch) {G : TG} (hG : TD G) {k : Int32 → TS → Prop} {u : TS} (hw : wt_readsCheckField k  u) : TMet l yX6_readsCheckField cX6_readsCheckField 6 (some .boolean) 5 G [.ref G.2.2.1] u (tI k) := by
  refine tk_met hG rfl (Nat.le_of_ble_eq_true rfl) (fun X hXl hXn hret C => ?_)
  subst hXl
  unfold wt_readsCheckField at hw
  refine GK.sub (lv' := [(0, .ref G.2.2.1)]) [0] rfl ?_
  refine gk_aload_n (pc := 0) C.1 0 dX6_readsCheckField_0 rfl rfl ?_
  refine tk_getI (pc := 1) C (k := 43) (by decide) (by decide) q2164 rfl dX6_readsCheckField_1 ?_
  obtain ⟨x_1, ex_1⟩ : ∃ z : Int32, z = u.2 43 := ⟨_, rfl⟩
  rw [← ex_1]
  replace hw := hw x_1 ex_1
  refine gk_istore_n (pc := 4) (lv' := [(1, Value.int x_1), (0, Value.ref G.2.2.1)]) C.1 dX6_readsCheckField_4 rfl (by rw [hXn]; decide) rfl ?_
  refine gk_aload_n (pc := 5) C.1 1 dX6_readsCheckField_5 rfl rfl ?_
  refine gk_bipush (pc := 6) (v := 46) C.1 dX6_readsCheckField_6 (by decide) ?_
  refine tk_callV (pc := 8) (y := yX6_reads) (n := 1) (As := [.int 46]) (rest := []) C (wk_reads (ev_l X) hG hw) q2354 q2356 qs80 q2357 ⟨rfl, by decide +kernel⟩ ⟨by decide, by decide⟩ rfl rfl (Nat.le_of_ble_eq_true rfl) dX6_readsCheckField_8 (fun v9 u_2 hp => ?_)
  obtain ⟨r_3, rfl, hw⟩ := hp
  refine GK.at (p2 := 11) rfl ?_
  refine gk_if_eq (pc := 11) (tgt := 18) C.1 dX6_readsCheckField_11 (by decide) (fun c_4 => ?_) (fun c_4 => ?_)
  · replace hw := hw.1 c_4
    refine gk_iconst (pc := 18) (v := 0) C.1 dX6_readsCheckField_18 (by decide) ?_
    refine GK.sub (lv' := [(0, .ref G.2.2.1), (1, .int x_1)]) [1, 0] rfl ?_
    exact kt_readsCheckField_19 C hG hret hXn  _ _ _ hw
  · replace hw := hw.2 c_4
    refine gk_iconst (pc := 14) (v := 1) C.1 dX6_readsCheckField_14 (by decide) ?_
    refine gk_goto (pc := 15) (tgt := 19) C.1 dX6_readsCheckField_15 (by decide) ?_
    refine GK.sub (lv' := [(0, .ref G.2.2.1), (1, .int x_1)]) [1, 0] rfl ?_
    exact kt_readsCheckField_19 C hG hret hXn  _ _ _ hw
/-! readsWaiter()Z -/
def wt_readsWaiter_100 (k : Int32 → TS → Prop) (x2 : Int32) (x3 : Int32) (x4 : Int32) (x5 : Int32) (u : TS) : Prop := vp_in x5 100 ∧ (vp_in (u.2 22) 33 ∧ (∀ u_1 : TS, u_1 = tpA u 16 (u.2 22).toNatClampNeg (u.1 37 x5.toNatClampNeg) → (vp_in (u_1.2 22) 33 ∧ (∀ u_2 : TS, u_2 = tpA u_1 17 (u_1.2 22).toNatClampNeg x2 → (vp_in (u_2.2 22) 33 ∧ (∀ u_3 : TS, u_3 = tpA u_2 18 (u_2.2 22).toNatClampNeg x3 → (vp_in (u_3.2 22) 33 ∧ (∀ u_4 : TS, u_4 = tpA u_3 19 (u_3.2 22).toNatClampNeg x4 → (∀ u_5 : TS, u_5 = tpI u_4 22 ((u_4.2 22) + 1) → (k 1 u_5))))))))))
theorem kt_readsWaiter_100 {X : Ev} {G : TG} {k : Int32 → TS → Prop} (C : TC X G cX6_readsWaiter 3) (hG : TD G) (hret : (ev_h X).sig.returnType = some .boolean) (hXn : ev_n X = 6) : ∀ (x2 : Int32) (x3 : Int32) (x4 : Int32) (x5 : Int32) (u : TS), wt_readsWaiter_100 k x2 x3 x4 x5 u → GK X (TP G u) 0 0 (tQ X G (tI k)) 100 [(0, .ref G.2.2.1), (2, .int x2), (3, .int x3), (4, .int x4), (5, .int x5)] [] := by
  intro x2 x3 x4 x5 u hw
  unfold wt_readsWaiter_100 at hw
  refine gk_aload_n (pc := 100) C.1 0 dX6_readsWaiter_100 rfl rfl ?_
  refine tk_getA (pc := 101) C (k := 16) (by decide) (by decide) q2137 rfl dX6_readsWaiter_101 ?_
  refine gk_aload_n (pc := 104) C.1 0 dX6_readsWaiter_104 rfl rfl ?_
  refine tk_getI (pc := 105) C (k := 22) (by decide) (by decide) q2143 rfl dX6_readsWaiter_105 ?_
  refine gk_aload_n (pc := 108) C.1 0 dX6_readsWaiter_108 rfl rfl ?_
  refine tk_getA (pc := 109) C (k := 37) (by decide) (by decide) q2158 rfl dX6_readsWaiter_109 ?_
  refine gk_iload (pc := 112) C.1 4 dX6_readsWaiter_112 rfl ?_
  obtain ⟨hi, hw⟩ := hw
  refine tk_ald (pc := 114) C (k := 37) (by decide) hi dX6_readsWaiter_114 ?_
  obtain ⟨hi, hw⟩ := hw
  refine tk_ast (pc := 115) C (k := 16) (by decide) hi dX6_readsWaiter_115 (fun u_1 eu_1 => ?_)
  replace hw := hw u_1 eu_1
  refine gk_aload_n (pc := 116) C.1 0 dX6_readsWaiter_116 rfl rfl ?_
  refine tk_getA (pc := 117) C (k := 17) (by decide) (by decide) q2138 rfl dX6_readsWaiter_117 ?_
  refine gk_aload_n (pc := 120) C.1 0 dX6_readsWaiter_120 rfl rfl ?_
  refine tk_getI (pc := 121) C (k := 22) (by decide) (by decide) q2143 rfl dX6_readsWaiter_121 ?_
  refine gk_iload_n (pc := 124) C.1 1 dX6_readsWaiter_124 rfl rfl ?_
  obtain ⟨hi, hw⟩ := hw
  refine tk_ast (pc := 125) C (k := 17) (by decide) hi dX6_readsWaiter_125 (fun u_2 eu_2 => ?_)
  replace hw := hw u_2 eu_2
  refine gk_aload_n (pc := 126) C.1 0 dX6_readsWaiter_126 rfl rfl ?_
  refine tk_getA (pc := 127) C (k := 18) (by decide) (by decide) q2139 rfl dX6_readsWaiter_127 ?_
  refine gk_aload_n (pc := 130) C.1 0 dX6_readsWaiter_130 rfl rfl ?_
  refine tk_getI (pc := 131) C (k := 22) (by decide) (by decide) q2143 rfl dX6_readsWaiter_131 ?_
  refine gk_iload_n (pc := 134) C.1 2 dX6_readsWaiter_134 rfl rfl ?_
  obtain ⟨hi, hw⟩ := hw
  refine tk_ast (pc := 135) C (k := 18) (by decide) hi dX6_readsWaiter_135 (fun u_3 eu_3 => ?_)
  replace hw := hw u_3 eu_3
  refine gk_aload_n (pc := 136) C.1 0 dX6_readsWaiter_136 rfl rfl ?_
  refine tk_getA (pc := 137) C (k := 19) (by decide) (by decide) q2140 rfl dX6_readsWaiter_137 ?_
  refine gk_aload_n (pc := 140) C.1 0 dX6_readsWaiter_140 rfl rfl ?_
  refine tk_getI (pc := 141) C (k := 22) (by decide) (by decide) q2143 rfl dX6_readsWaiter_141 ?_
  refine gk_iload (pc := 144) C.1 3 dX6_readsWaiter_144 rfl ?_
  obtain ⟨hi, hw⟩ := hw
  refine tk_ast (pc := 146) C (k := 19) (by decide) hi dX6_readsWaiter_146 (fun u_4 eu_4 => ?_)
  replace hw := hw u_4 eu_4
  refine gk_aload_n (pc := 147) C.1 0 dX6_readsWaiter_147 rfl rfl ?_
  refine gk_dup (pc := 148) C.1 dX6_readsWaiter_148 rfl ?_
  refine tk_getI (pc := 149) C (k := 22) (by decide) (by decide) q2143 rfl dX6_readsWaiter_149 ?_
  refine gk_iconst (pc := 152) (v := 1) C.1 dX6_readsWaiter_152 (by decide) ?_
  refine gk_iadd (pc := 153) C.1 dX6_readsWaiter_153 ?_
  refine tk_putI (pc := 154) C (k := 22) (by decide) (by decide) q2143 rfl rfl (ty := .int) rfl rfl rfl dX6_readsWaiter_154 (fun u_5 eu_5 => ?_)
  replace hw := hw u_5 eu_5
  refine gk_iconst (pc := 157) (v := 1) C.1 dX6_readsWaiter_157 (by decide) ?_
  exact tk_zret (pc := 158) C hret dX6_readsWaiter_158 bz1 hw
def wt_readsWaiter_95 (k : Int32 → TS → Prop) (x1 : Int32) (x2 : Int32) (x3 : Int32) (x4 : Int32) (x5 : Int32) (u : TS) : Prop := wt_isBad (fun u_1 => wt_readsWaiter_100 k x2 x3 x4 x5 u_1) x1 u
theorem kt_readsWaiter_95 {X : Ev} {G : TG} {k : Int32 → TS → Prop} (C : TC X G cX6_readsWaiter 3) (hG : TD G) (hret : (ev_h X).sig.returnType = some .boolean) (hXn : ev_n X = 6) : ∀ (x1 : Int32) (x2 : Int32) (x3 : Int32) (x4 : Int32) (x5 : Int32) (u : TS), wt_readsWaiter_95 k x1 x2 x3 x4 x5 u → GK X (TP G u) 0 0 (tQ X G (tI k)) 95 [(0, .ref G.2.2.1), (1, .int x1), (2, .int x2), (3, .int x3), (4, .int x4), (5, .int x5)] [] := by
  intro x1 x2 x3 x4 x5 u hw
  unfold wt_readsWaiter_95 at hw
  refine gk_aload_n (pc := 95) C.1 0 dX6_readsWaiter_95 rfl rfl ?_
  refine gk_iload_n (pc := 96) C.1 1 dX6_readsWaiter_96 rfl rfl ?_
  refine tk_callV (pc := 97) (y := yX6_isBad) (n := 1) (As := [.int x1]) (rest := []) C (wk_isBad (ev_l X) hG hw) q2334 q2336 qs75 q2337 ⟨rfl, by decide +kernel⟩ ⟨by decide, by decide⟩ rfl rfl (Nat.le_of_ble_eq_true rfl) dX6_readsWaiter_97 (fun v9 u_1 hp => ?_)
  obtain ⟨rfl, hw⟩ := hp
  refine GK.at (p2 := 100) rfl ?_
  refine GK.sub (lv' := [(0, .ref G.2.2.1), (2, .int x2), (3, .int x3), (4, .int x4), (5, .int x5)]) [0, 2, 3, 4, 5] rfl ?_
  exact kt_readsWaiter_100 C hG hret hXn  _ _ _ _ _ hw
def wt_readsWaiter_38 (k : Int32 → TS → Prop) (x1 : Int32) (x2 : Int32) (x3 : Int32) (s0 : Int32) (u : TS) : Prop := ((0 ≤ s0 → (∀ x_2 : Int32, x_2 = (u.2 45) - 1 → (vp_in x_2 100 ∧ (vp_in x_2 100 ∧ (∀ u_3 : TS, u_3 = tpA u 39 x_2.toNatClampNeg ((u.1 39 x_2.toNatClampNeg) ||| 1) → (vp_in x_2 100 ∧ (wt_has (fun r_5 u_4 => ((r_5 = 0 → (wt_readsWaiter_95 k x1 x2 x3 s0 x_2 u_4)) ∧ (¬ r_5 = 0 → (vp_in x_2 100 ∧ (wt_has (fun r_8 u_7 => ((¬ r_8 = 0 → (wt_readsWaiter_100 k x2 x3 s0 x_2 u_7)) ∧ (r_8 = 0 → (wt_readsWaiter_95 k x1 x2 x3 s0 x_2 u_7)))) (u_4.1 39 x_2.toNatClampNeg) s0 u_4))))) (u_3.1 39 x_2.toNatClampNeg) x3 u_3))))))) ∧ (¬ 0 ≤ s0 → (k 0 u)))
theorem kt_readsWaiter_38 {X : Ev} {G : TG} {k : Int32 → TS → Prop} (C : TC X G cX6_readsWaiter 3) (hG : TD G) (hret : (ev_h X).sig.returnType = some .boolean) (hXn : ev_n X = 6) : ∀ (x1 : Int32) (x2 : Int32) (x3 : Int32) (s0 : Int32) (u : TS), wt_readsWaiter_38 k x1 x2 x3 s0 u → GK X (TP G u) 0 0 (tQ X G (tI k)) 38 [(0, .ref G.2.2.1), (1, .int x1), (2, .int x2), (3, .int x3)] [.int s0] := by
  intro x1 x2 x3 s0 u hw
  unfold wt_readsWaiter_38 at hw
  refine gk_istore (pc := 38) (lv' := [(4, Value.int s0), (0, Value.ref G.2.2.1), (1, Value.int x1), (2, Value.int x2), (3, Value.int x3)]) C.1 dX6_readsWaiter_38 (by rw [hXn]; decide) rfl ?_
  refine gk_iload (pc := 40) C.1 0 dX6_readsWaiter_40 rfl ?_
  refine gk_if_ge (pc := 42) (tgt := 47) C.1 dX6_readsWaiter_42 (by decide) (fun c_1 => ?_) (fun c_1 => ?_)
  · replace hw := hw.1 c_1
    refine gk_aload_n (pc := 47) C.1 1 dX6_readsWaiter_47 rfl rfl ?_
    refine tk_getI (pc := 48) C (k := 45) (by decide) (by decide) q2166 rfl dX6_readsWaiter_48 ?_
    refine gk_iconst (pc := 51) (v := 1) C.1 dX6_readsWaiter_51 (by decide) ?_
    refine gk_isub (pc := 52) C.1 dX6_readsWaiter_52 ?_
    obtain ⟨x_2, ex_2⟩ : ∃ z : Int32, z = (u.2 45) - 1 := ⟨_, rfl⟩
    rw [← ex_2]
    replace hw := hw x_2 ex_2
    refine gk_istore (pc := 53) (lv' := [(5, Value.int x_2), (4, Value.int s0), (0, Value.ref G.2.2.1), (1, Value.int x1), (2, Value.int x2), (3, Value.int x3)]) C.1 dX6_readsWaiter_53 (by rw [hXn]; decide) rfl ?_
    refine gk_aload_n (pc := 55) C.1 2 dX6_readsWaiter_55 rfl rfl ?_
    refine tk_getA (pc := 56) C (k := 39) (by decide) (by decide) q2160 rfl dX6_readsWaiter_56 ?_
    refine gk_iload (pc := 59) C.1 0 dX6_readsWaiter_59 rfl ?_
    refine gk_dup2 (pc := 61) C.1 dX6_readsWaiter_61 rfl rfl ?_
    obtain ⟨hi, hw⟩ := hw
    refine tk_ald (pc := 62) C (k := 39) (by decide) hi dX6_readsWaiter_62 ?_
    refine gk_iconst (pc := 63) (v := 1) C.1 dX6_readsWaiter_63 (by decide) ?_
    refine gk_ior (pc := 64) C.1 dX6_readsWaiter_64 ?_
    obtain ⟨hi, hw⟩ := hw
    refine tk_ast (pc := 65) C (k := 39) (by decide) hi dX6_readsWaiter_65 (fun u_3 eu_3 => ?_)
    replace hw := hw u_3 eu_3
    refine gk_aload_n (pc := 66) C.1 2 dX6_readsWaiter_66 rfl rfl ?_
    refine tk_getA (pc := 67) C (k := 39) (by decide) (by decide) q2160 rfl dX6_readsWaiter_67 ?_
    refine gk_iload (pc := 70) C.1 0 dX6_readsWaiter_70 rfl ?_
    obtain ⟨hi, hw⟩ := hw
    refine tk_ald (pc := 72) C (k := 39) (by decide) hi dX6_readsWaiter_72 ?_
    refine gk_iload_n (pc := 73) C.1 5 dX6_readsWaiter_73 rfl rfl ?_
    refine tk_callS (pc := 74) (y := yX6_has) (n := 2) (As := [.int (u_3.1 39 x_2.toNatClampNeg), .int x3]) (rest := []) C (wk_has (ev_l X) hG hw) q2366 q2367 q2368 ⟨rfl, by decide +kernel⟩ ⟨by decide, by decide⟩ rfl rfl (Nat.le_of_ble_eq_true rfl) dX6_readsWaiter_74 (fun v9 u_4 hp => ?_)
    obtain ⟨r_5, rfl, hw⟩ := hp
    refine GK.at (p2 := 77) rfl ?_
    refine gk_if_eq (pc := 77) (tgt := 95) C.1 dX6_readsWaiter_77 (by decide) (fun c_6 => ?_) (fun c_6 => ?_)
    · replace hw := hw.1 c_6
      refine GK.sub (lv' := [(0, .ref G.2.2.1), (1, .int x1), (2, .int x2), (3, .int x3), (4, .int s0), (5, .int x_2)]) [2, 3, 4, 5, 1, 0] rfl ?_
      exact kt_readsWaiter_95 C hG hret hXn  _ _ _ _ _ _ hw
    · replace hw := hw.2 c_6
      refine gk_aload_n (pc := 80) C.1 2 dX6_readsWaiter_80 rfl rfl ?_
      refine tk_getA (pc := 81) C (k := 39) (by decide) (by decide) q2160 rfl dX6_readsWaiter_81 ?_
      refine gk_iload (pc := 84) C.1 0 dX6_readsWaiter_84 rfl ?_
      obtain ⟨hi, hw⟩ := hw
      refine tk_ald (pc := 86) C (k := 39) (by decide) hi dX6_readsWaiter_86 ?_
      refine gk_iload (pc := 87) C.1 1 dX6_readsWaiter_87 rfl ?_
      refine tk_callS (pc := 89) (y := yX6_has) (n := 2) (As := [.int (u_4.1 39 x_2.toNatClampNeg), .int s0]) (rest := []) C (wk_has (ev_l X) hG hw) q2366 q2367 q2368 ⟨rfl, by decide +kernel⟩ ⟨by decide, by decide⟩ rfl rfl (Nat.le_of_ble_eq_true rfl) dX6_readsWaiter_89 (fun v9 u_7 hp => ?_)
      obtain ⟨r_8, rfl, hw⟩ := hp
      refine GK.at (p2 := 92) rfl ?_
      refine gk_if_ne (pc := 92) (tgt := 100) C.1 dX6_readsWaiter_92 (by decide) (fun c_9 => ?_) (fun c_9 => ?_)
      · replace hw := hw.1 c_9
        refine GK.sub (lv' := [(0, .ref G.2.2.1), (2, .int x2), (3, .int x3), (4, .int s0), (5, .int x_2)]) [2, 4, 5, 1, 0] rfl ?_
        exact kt_readsWaiter_100 C hG hret hXn  _ _ _ _ _ hw
      · replace hw := hw.2 c_9
        refine GK.sub (lv' := [(0, .ref G.2.2.1), (1, .int x1), (2, .int x2), (3, .int x3), (4, .int s0), (5, .int x_2)]) [2, 3, 4, 5, 1, 0] rfl ?_
        exact kt_readsWaiter_95 C hG hret hXn  _ _ _ _ _ _ hw
  · replace hw := hw.2 c_1
    refine gk_iconst (pc := 45) (v := 0) C.1 dX6_readsWaiter_45 (by decide) ?_
    exact tk_zret (pc := 46) C hret dX6_readsWaiter_46 bz0 hw
def wt_readsWaiter (k : Int32 → TS → Prop) (u : TS) : Prop := ∀ x_1 : Int32, x_1 = u.2 43 → (wt_sign (fun r_3 u_2 => ∀ u_4 : TS, u_4 = tpI u_2 43 ((u_2.2 43) + 1) → (wt_nameNow (fun r_6 u_5 => ((0 ≤ r_6 → (wt_nameNow (fun r_9 u_8 => wt_readsWaiter_38 k x_1 r_3 r_6 r_9 u_8) u_5)) ∧ (¬ 0 ≤ r_6 → (wt_readsWaiter_38 k x_1 r_3 r_6 (-9) u_5)))) u_4)) u)
theorem wk_readsWaiter (l : Launch) {G : TG} (hG : TD G) {k : Int32 → TS → Prop} {u : TS} (hw : wt_readsWaiter k  u) : TMet l yX6_readsWaiter cX6_readsWaiter 6 (some .boolean) 3 G [.ref G.2.2.1] u (tI k) := by
  refine tk_met hG rfl (Nat.le_of_ble_eq_true rfl) (fun X hXl hXn hret C => ?_)
  subst hXl
  unfold wt_readsWaiter at hw
  refine GK.sub (lv' := [(0, .ref G.2.2.1)]) [0] rfl ?_
  refine gk_aload_n (pc := 0) C.1 0 dX6_readsWaiter_0 rfl rfl ?_
  refine tk_getI (pc := 1) C (k := 43) (by decide) (by decide) q2164 rfl dX6_readsWaiter_1 ?_
  obtain ⟨x_1, ex_1⟩ : ∃ z : Int32, z = u.2 43 := ⟨_, rfl⟩
  rw [← ex_1]
  replace hw := hw x_1 ex_1
  refine gk_istore_n (pc := 4) (lv' := [(1, Value.int x_1), (0, Value.ref G.2.2.1)]) C.1 dX6_readsWaiter_4 rfl (by rw [hXn]; decide) rfl ?_
  refine gk_aload_n (pc := 5) C.1 1 dX6_readsWaiter_5 rfl rfl ?_
  refine tk_callV (pc := 6) (y := yX6_sign) (n := 0) (As := []) (rest := []) C (wk_sign (ev_l X) hG hw) q2319 q2321 qs72 q2322 ⟨rfl, by decide +kernel⟩ ⟨by decide, by decide⟩ rfl rfl (Nat.le_of_ble_eq_true rfl) dX6_readsWaiter_6 (fun v9 u_2 hp => ?_)
  obtain ⟨r_3, rfl, hw⟩ := hp
  refine GK.at (p2 := 9) rfl ?_
  refine gk_istore_n (pc := 9) (lv' := [(2, Value.int r_3), (1, Value.int x_1), (0, Value.ref G.2.2.1)]) C.1 dX6_readsWaiter_9 rfl (by rw [hXn]; decide) rfl ?_
  refine gk_aload_n (pc := 10) C.1 2 dX6_readsWaiter_10 rfl rfl ?_
  refine gk_dup (pc := 11) C.1 dX6_readsWaiter_11 rfl ?_
  refine tk_getI (pc := 12) C (k := 43) (by decide) (by decide) q2164 rfl dX6_readsWaiter_12 ?_
  refine gk_iconst (pc := 15) (v := 1) C.1 dX6_readsWaiter_15 (by decide) ?_
  refine gk_iadd (pc := 16) C.1 dX6_readsWaiter_16 ?_
  refine tk_putI (pc := 17) C (k := 43) (by decide) (by decide) q2164 rfl rfl (ty := .int) rfl rfl rfl dX6_readsWaiter_17 (fun u_4 eu_4 => ?_)
  replace hw := hw u_4 eu_4
  refine gk_aload_n (pc := 20) C.1 2 dX6_readsWaiter_20 rfl rfl ?_
  refine tk_callV (pc := 21) (y := yX6_nameNow) (n := 0) (As := []) (rest := []) C (wk_nameNow (ev_l X) hG hw) q2362 q2364 qs82 q2365 ⟨rfl, by decide +kernel⟩ ⟨by decide, by decide⟩ rfl rfl (Nat.le_of_ble_eq_true rfl) dX6_readsWaiter_21 (fun v9 u_5 hp => ?_)
  obtain ⟨r_6, rfl, hw⟩ := hp
  refine GK.at (p2 := 24) rfl ?_
  refine gk_istore_n (pc := 24) (lv' := [(3, Value.int r_6), (2, Value.int r_3), (1, Value.int x_1), (0, Value.ref G.2.2.1)]) C.1 dX6_readsWaiter_24 rfl (by rw [hXn]; decide) rfl ?_
  refine gk_iload_n (pc := 25) C.1 0 dX6_readsWaiter_25 rfl rfl ?_
  refine gk_if_ge (pc := 26) (tgt := 34) C.1 dX6_readsWaiter_26 (by decide) (fun c_7 => ?_) (fun c_7 => ?_)
  · replace hw := hw.1 c_7
    refine gk_aload_n (pc := 34) C.1 3 dX6_readsWaiter_34 rfl rfl ?_
    refine tk_callV (pc := 35) (y := yX6_nameNow) (n := 0) (As := []) (rest := []) C (wk_nameNow (ev_l X) hG hw) q2362 q2364 qs82 q2365 ⟨rfl, by decide +kernel⟩ ⟨by decide, by decide⟩ rfl rfl (Nat.le_of_ble_eq_true rfl) dX6_readsWaiter_35 (fun v9 u_8 hp => ?_)
    obtain ⟨r_9, rfl, hw⟩ := hp
    refine GK.at (p2 := 38) rfl ?_
    refine GK.sub (lv' := [(0, .ref G.2.2.1), (1, .int x_1), (2, .int r_3), (3, .int r_6)]) [3, 2, 1, 0] rfl ?_
    exact kt_readsWaiter_38 C hG hret hXn  _ _ _ _ _ hw
  · replace hw := hw.2 c_7
    refine gk_bipush (pc := 29) (v := (-9)) C.1 dX6_readsWaiter_29 (by decide) ?_
    refine gk_goto (pc := 31) (tgt := 38) C.1 dX6_readsWaiter_31 (by decide) ?_
    refine GK.sub (lv' := [(0, .ref G.2.2.1), (1, .int x_1), (2, .int r_3), (3, .int r_6)]) [3, 2, 1, 0] rfl ?_
    exact kt_readsWaiter_38 C hG hret hXn  _ _ _ _ _ hw
/-! readsInCheck()Z -/
def wt_readsInCheck_39 (k : Int32 → TS → Prop)  (u : TS) : Prop := wt_readsWaiter (fun r_2 u_1 => bz r_2 ∧ k r_2 u_1) u
theorem kt_readsInCheck_39 {X : Ev} {G : TG} {k : Int32 → TS → Prop} (C : TC X G cX6_readsInCheck 6) (hG : TD G) (hret : (ev_h X).sig.returnType = some .boolean) (hXn : ev_n X = 1) : ∀  (u : TS), wt_readsInCheck_39 k  u → GK X (TP G u) 0 0 (tQ X G (tI k)) 39 [(0, .ref G.2.2.1)] [] := by
  intro  u hw
  unfold wt_readsInCheck_39 at hw
  refine gk_aload_n (pc := 39) C.1 0 dX6_readsInCheck_39 rfl rfl ?_
  refine tk_callV (pc := 40) (y := yX6_readsWaiter) (n := 0) (As := []) (rest := []) C (wk_readsWaiter (ev_l X) hG hw) q2405 q2407 qs91 q2408 ⟨rfl, by decide +kernel⟩ ⟨by decide, by decide⟩ rfl rfl (Nat.le_of_ble_eq_true rfl) dX6_readsInCheck_40 (fun v9 u_1 hp => ?_)
  obtain ⟨r_2, rfl, hw⟩ := hp
  refine GK.at (p2 := 43) rfl ?_
  obtain ⟨hz, hw⟩ := hw
  exact tk_zret (pc := 43) C hret dX6_readsInCheck_43 hz hw
def wt_readsInCheck_76 (k : Int32 → TS → Prop)  (u : TS) : Prop := k 1 u
theorem kt_readsInCheck_76 {X : Ev} {G : TG} {k : Int32 → TS → Prop} (C : TC X G cX6_readsInCheck 6) (hG : TD G) (hret : (ev_h X).sig.returnType = some .boolean) (hXn : ev_n X = 1) : ∀  (u : TS), wt_readsInCheck_76 k  u → GK X (TP G u) 0 0 (tQ X G (tI k)) 76 [] [] := by
  intro  u hw
  unfold wt_readsInCheck_76 at hw
  refine gk_iconst (pc := 76) (v := 1) C.1 dX6_readsInCheck_76 (by decide) ?_
  refine gk_goto (pc := 77) (tgt := 81) C.1 dX6_readsInCheck_77 (by decide) ?_
  exact tk_zret (pc := 81) C hret dX6_readsInCheck_81 bz1 hw
def wt_readsInCheck (k : Int32 → TS → Prop) (u : TS) : Prop := vp_in ((u.2 45) - 1) 100 ∧ ((((u.1 38 ((u.2 45) - 1).toNatClampNeg) = 123 → (wt_sign (fun r_3 u_2 => ((r_3 = 60 → (wt_readsInCheck_39 k u_2)) ∧ (¬ r_3 = 60 → (wt_sign (fun r_6 u_5 => ((¬ r_6 = 61 → (wt_closesRecord (fun r_9 u_8 => ((¬ r_9 = 0 → (wt_readsInCheck_76 k u_8)) ∧ (r_9 = 0 → (vp_in ((u_8.2 45) - 1) 100 ∧ (wt_has (fun r_12 u_11 => ((¬ r_12 = 0 → (k 0 u_11)) ∧ (r_12 = 0 → (wt_readsCheckField (fun r_15 u_14 => ((r_15 = 0 → (k 0 u_14)) ∧ (¬ r_15 = 0 → (wt_readsInCheck_76 k u_14)))) u_11)))) (u_8.1 39 ((u_8.2 45) - 1).toNatClampNeg) 0 u_8))))) u_5)) ∧ (r_6 = 61 → (wt_readsInCheck_39 k u_5)))) u_2)))) u)) ∧ (¬ (u.1 38 ((u.2 45) - 1).toNatClampNeg) = 123 → (wt_readsCheck (fun r_18 u_17 => bz r_18 ∧ k r_18 u_17) u))))
theorem wk_readsInCheck (l : Launch) {G : TG} (hG : TD G) {k : Int32 → TS → Prop} {u : TS} (hw : wt_readsInCheck k  u) : TMet l yX6_readsInCheck cX6_readsInCheck 1 (some .boolean) 6 G [.ref G.2.2.1] u (tI k) := by
  refine tk_met hG rfl (Nat.le_of_ble_eq_true rfl) (fun X hXl hXn hret C => ?_)
  subst hXl
  unfold wt_readsInCheck at hw
  refine GK.sub (lv' := [(0, .ref G.2.2.1)]) [0] rfl ?_
  refine gk_aload_n (pc := 0) C.1 0 dX6_readsInCheck_0 rfl rfl ?_
  refine tk_getA (pc := 1) C (k := 38) (by decide) (by decide) q2159 rfl dX6_readsInCheck_1 ?_
  refine gk_aload_n (pc := 4) C.1 0 dX6_readsInCheck_4 rfl rfl ?_
  refine tk_getI (pc := 5) C (k := 45) (by decide) (by decide) q2166 rfl dX6_readsInCheck_5 ?_
  refine gk_iconst (pc := 8) (v := 1) C.1 dX6_readsInCheck_8 (by decide) ?_
  refine gk_isub (pc := 9) C.1 dX6_readsInCheck_9 ?_
  obtain ⟨hi, hw⟩ := hw
  refine tk_ald (pc := 10) C (k := 38) (by decide) hi dX6_readsInCheck_10 ?_
  refine gk_bipush (pc := 11) (v := 123) C.1 dX6_readsInCheck_11 (by decide) ?_
  refine gk_icmp_eq (pc := 13) (tgt := 21) C.1 dX6_readsInCheck_13 (by decide) (fun c_1 => ?_) (fun c_1 => ?_)
  · replace hw := hw.1 c_1
    refine gk_aload_n (pc := 21) C.1 0 dX6_readsInCheck_21 rfl rfl ?_
    refine tk_callV (pc := 22) (y := yX6_sign) (n := 0) (As := []) (rest := []) C (wk_sign (ev_l X) hG hw) q2319 q2321 qs72 q2322 ⟨rfl, by decide +kernel⟩ ⟨by decide, by decide⟩ rfl rfl (Nat.le_of_ble_eq_true rfl) dX6_readsInCheck_22 (fun v9 u_2 hp => ?_)
    obtain ⟨r_3, rfl, hw⟩ := hp
    refine GK.at (p2 := 25) rfl ?_
    refine gk_bipush (pc := 25) (v := 60) C.1 dX6_readsInCheck_25 (by decide) ?_
    refine gk_icmp_eq (pc := 27) (tgt := 39) C.1 dX6_readsInCheck_27 (by decide) (fun c_4 => ?_) (fun c_4 => ?_)
    · replace hw := hw.1 c_4
      refine GK.sub (lv' := [(0, .ref G.2.2.1)]) [0] rfl ?_
      exact kt_readsInCheck_39 C hG hret hXn   _ hw
    · replace hw := hw.2 c_4
      refine gk_aload_n (pc := 30) C.1 0 dX6_readsInCheck_30 rfl rfl ?_
      refine tk_callV (pc := 31) (y := yX6_sign) (n := 0) (As := []) (rest := []) C (wk_sign (ev_l X) hG hw) q2319 q2321 qs72 q2322 ⟨rfl, by decide +kernel⟩ ⟨by decide, by decide⟩ rfl rfl (Nat.le_of_ble_eq_true rfl) dX6_readsInCheck_31 (fun v9 u_5 hp => ?_)
      obtain ⟨r_6, rfl, hw⟩ := hp
      refine GK.at (p2 := 34) rfl ?_
      refine gk_bipush (pc := 34) (v := 61) C.1 dX6_readsInCheck_34 (by decide) ?_
      refine gk_icmp_ne (pc := 36) (tgt := 44) C.1 dX6_readsInCheck_36 (by decide) (fun c_7 => ?_) (fun c_7 => ?_)
      · replace hw := hw.1 c_7
        refine gk_aload_n (pc := 44) C.1 0 dX6_readsInCheck_44 rfl rfl ?_
        refine tk_callV (pc := 45) (y := yX6_closesRecord) (n := 0) (As := []) (rest := []) C (wk_closesRecord (ev_l X) hG hw) q2409 q2411 qs92 q2412 ⟨rfl, by decide +kernel⟩ ⟨by decide, by decide⟩ rfl rfl (Nat.le_of_ble_eq_true rfl) dX6_readsInCheck_45 (fun v9 u_8 hp => ?_)
        obtain ⟨r_9, rfl, hw⟩ := hp
        refine GK.at (p2 := 48) rfl ?_
        refine gk_if_ne (pc := 48) (tgt := 76) C.1 dX6_readsInCheck_48 (by decide) (fun c_10 => ?_) (fun c_10 => ?_)
        · replace hw := hw.1 c_10
          refine GK.sub (lv' := []) [] rfl ?_
          exact kt_readsInCheck_76 C hG hret hXn   _ hw
        · replace hw := hw.2 c_10
          refine gk_aload_n (pc := 51) C.1 0 dX6_readsInCheck_51 rfl rfl ?_
          refine tk_getA (pc := 52) C (k := 39) (by decide) (by decide) q2160 rfl dX6_readsInCheck_52 ?_
          refine gk_aload_n (pc := 55) C.1 0 dX6_readsInCheck_55 rfl rfl ?_
          refine tk_getI (pc := 56) C (k := 45) (by decide) (by decide) q2166 rfl dX6_readsInCheck_56 ?_
          refine gk_iconst (pc := 59) (v := 1) C.1 dX6_readsInCheck_59 (by decide) ?_
          refine gk_isub (pc := 60) C.1 dX6_readsInCheck_60 ?_
          obtain ⟨hi, hw⟩ := hw
          refine tk_ald (pc := 61) C (k := 39) (by decide) hi dX6_readsInCheck_61 ?_
          refine gk_iconst (pc := 62) (v := 0) C.1 dX6_readsInCheck_62 (by decide) ?_
          refine tk_callS (pc := 63) (y := yX6_has) (n := 2) (As := [.int (u_8.1 39 ((u_8.2 45) - 1).toNatClampNeg), .int 0]) (rest := []) C (wk_has (ev_l X) hG hw) q2366 q2367 q2368 ⟨rfl, by decide +kernel⟩ ⟨by decide, by decide⟩ rfl rfl (Nat.le_of_ble_eq_true rfl) dX6_readsInCheck_63 (fun v9 u_11 hp => ?_)
          obtain ⟨r_12, rfl, hw⟩ := hp
          refine GK.at (p2 := 66) rfl ?_
          refine gk_if_ne (pc := 66) (tgt := 80) C.1 dX6_readsInCheck_66 (by decide) (fun c_13 => ?_) (fun c_13 => ?_)
          · replace hw := hw.1 c_13
            refine gk_iconst (pc := 80) (v := 0) C.1 dX6_readsInCheck_80 (by decide) ?_
            exact tk_zret (pc := 81) C hret dX6_readsInCheck_81 bz0 hw
          · replace hw := hw.2 c_13
            refine gk_aload_n (pc := 69) C.1 0 dX6_readsInCheck_69 rfl rfl ?_
            refine tk_callV (pc := 70) (y := yX6_readsCheckField) (n := 0) (As := []) (rest := []) C (wk_readsCheckField (ev_l X) hG hw) q2413 q2415 qs93 q2416 ⟨rfl, by decide +kernel⟩ ⟨by decide, by decide⟩ rfl rfl (Nat.le_of_ble_eq_true rfl) dX6_readsInCheck_70 (fun v9 u_14 hp => ?_)
            obtain ⟨r_15, rfl, hw⟩ := hp
            refine GK.at (p2 := 73) rfl ?_
            refine gk_if_eq (pc := 73) (tgt := 80) C.1 dX6_readsInCheck_73 (by decide) (fun c_16 => ?_) (fun c_16 => ?_)
            · replace hw := hw.1 c_16
              refine gk_iconst (pc := 80) (v := 0) C.1 dX6_readsInCheck_80 (by decide) ?_
              exact tk_zret (pc := 81) C hret dX6_readsInCheck_81 bz0 hw
            · replace hw := hw.2 c_16
              refine GK.sub (lv' := []) [] rfl ?_
              exact kt_readsInCheck_76 C hG hret hXn   _ hw
      · replace hw := hw.2 c_7
        refine GK.sub (lv' := [(0, .ref G.2.2.1)]) [0] rfl ?_
        exact kt_readsInCheck_39 C hG hret hXn   _ hw
  · replace hw := hw.2 c_1
    refine gk_aload_n (pc := 16) C.1 0 dX6_readsInCheck_16 rfl rfl ?_
    refine tk_callV (pc := 17) (y := yX6_readsCheck) (n := 0) (As := []) (rest := []) C (wk_readsCheck (ev_l X) hG hw) q2381 q2383 qs85 q2384 ⟨rfl, by decide +kernel⟩ ⟨by decide, by decide⟩ rfl rfl (Nat.le_of_ble_eq_true rfl) dX6_readsInCheck_17 (fun v9 u_17 hp => ?_)
    obtain ⟨r_18, rfl, hw⟩ := hp
    refine GK.at (p2 := 20) rfl ?_
    obtain ⟨hz, hw⟩ := hw
    exact tk_zret (pc := 20) C hret dX6_readsInCheck_20 hz hw
/-! readsAllCheck()Z -/
def wt_readsAllCheck_59 (k : Int32 → TS → Prop) (x1 : Int32) (u : TS) : Prop := ((x1 = 0 → (k 0 u)) ∧ (¬ x1 = 0 → (((¬ (u.2 43) = (u.2 42) → (k 0 u)) ∧ ((u.2 43) = (u.2 42) → (k 1 u))))))
theorem kt_readsAllCheck_59 {X : Ev} {G : TG} {k : Int32 → TS → Prop} (C : TC X G cX6_readsAllCheck 7) (hG : TD G) (hret : (ev_h X).sig.returnType = some .boolean) (hXn : ev_n X = 2) : ∀ (x1 : Int32) (u : TS), wt_readsAllCheck_59 k x1 u → GK X (TP G u) 0 0 (tQ X G (tI k)) 59 [(0, .ref G.2.2.1), (1, .int x1)] [] := by
  intro x1 u hw
  unfold wt_readsAllCheck_59 at hw
  refine gk_iload_n (pc := 59) C.1 1 dX6_readsAllCheck_59 rfl rfl ?_
  refine gk_if_eq (pc := 60) (tgt := 78) C.1 dX6_readsAllCheck_60 (by decide) (fun c_1 => ?_) (fun c_1 => ?_)
  · replace hw := hw.1 c_1
    refine gk_iconst (pc := 78) (v := 0) C.1 dX6_readsAllCheck_78 (by decide) ?_
    exact tk_zret (pc := 79) C hret dX6_readsAllCheck_79 bz0 hw
  · replace hw := hw.2 c_1
    refine gk_aload_n (pc := 63) C.1 0 dX6_readsAllCheck_63 rfl rfl ?_
    refine tk_getI (pc := 64) C (k := 43) (by decide) (by decide) q2164 rfl dX6_readsAllCheck_64 ?_
    refine gk_aload_n (pc := 67) C.1 0 dX6_readsAllCheck_67 rfl rfl ?_
    refine tk_getI (pc := 68) C (k := 42) (by decide) (by decide) q2163 rfl dX6_readsAllCheck_68 ?_
    refine gk_icmp_ne (pc := 71) (tgt := 78) C.1 dX6_readsAllCheck_71 (by decide) (fun c_2 => ?_) (fun c_2 => ?_)
    · replace hw := hw.1 c_2
      refine gk_iconst (pc := 78) (v := 0) C.1 dX6_readsAllCheck_78 (by decide) ?_
      exact tk_zret (pc := 79) C hret dX6_readsAllCheck_79 bz0 hw
    · replace hw := hw.2 c_2
      refine gk_iconst (pc := 74) (v := 1) C.1 dX6_readsAllCheck_74 (by decide) ?_
      refine gk_goto (pc := 75) (tgt := 79) C.1 dX6_readsAllCheck_75 (by decide) ?_
      exact tk_zret (pc := 79) C hret dX6_readsAllCheck_79 bz1 hw
def wt_readsAllCheck_40 (k : Int32 → TS → Prop) : Nat → Int32 → TS → Prop
  | 0 => fun _ _ => False
  | n + 1 => fun x1 u => ((x1 = 0 → (wt_readsAllCheck_59 k x1 u)) ∧ (¬ x1 = 0 → ((((u.2 45) ≤ 0 → (wt_readsAllCheck_59 k x1 u)) ∧ (¬ (u.2 45) ≤ 0 → (wt_readsInCheck (fun r_4 u_3 => wt_readsAllCheck_40 k n r_4 u_3) u))))))
theorem kt_readsAllCheck_40 {X : Ev} {G : TG} {k : Int32 → TS → Prop} (C : TC X G cX6_readsAllCheck 7) (hG : TD G) (hret : (ev_h X).sig.returnType = some .boolean) (hXn : ev_n X = 2) : ∀ (n : Nat) (x1 : Int32) (u : TS), wt_readsAllCheck_40 k n x1 u → GK X (TP G u) 0 0 (tQ X G (tI k)) 40 [(0, .ref G.2.2.1), (1, .int x1)] [] := by
  intro n
  induction n with
  | zero => intro x1 u hw; exact hw.elim
  | succ n ih =>
  intro x1 u hw
  unfold wt_readsAllCheck_40 at hw
  refine gk_iload_n (pc := 40) C.1 1 dX6_readsAllCheck_40 rfl rfl ?_
  refine gk_if_eq (pc := 41) (tgt := 59) C.1 dX6_readsAllCheck_41 (by decide) (fun c_1 => ?_) (fun c_1 => ?_)
  · replace hw := hw.1 c_1
    refine GK.sub (lv' := [(0, .ref G.2.2.1), (1, .int x1)]) [0, 1] rfl ?_
    exact kt_readsAllCheck_59 C hG hret hXn  _ _ hw
  · replace hw := hw.2 c_1
    refine gk_aload_n (pc := 44) C.1 0 dX6_readsAllCheck_44 rfl rfl ?_
    refine tk_getI (pc := 45) C (k := 45) (by decide) (by decide) q2166 rfl dX6_readsAllCheck_45 ?_
    refine gk_if_le (pc := 48) (tgt := 59) C.1 dX6_readsAllCheck_48 (by decide) (fun c_2 => ?_) (fun c_2 => ?_)
    · replace hw := hw.1 c_2
      refine GK.sub (lv' := [(0, .ref G.2.2.1), (1, .int x1)]) [0, 1] rfl ?_
      exact kt_readsAllCheck_59 C hG hret hXn  _ _ hw
    · replace hw := hw.2 c_2
      refine gk_aload_n (pc := 51) C.1 0 dX6_readsAllCheck_51 rfl rfl ?_
      refine tk_callV (pc := 52) (y := yX6_readsInCheck) (n := 0) (As := []) (rest := []) C (wk_readsInCheck (ev_l X) hG hw) q2401 q2403 qs90 q2404 ⟨rfl, by decide +kernel⟩ ⟨by decide, by decide⟩ rfl rfl (Nat.le_of_ble_eq_true rfl) dX6_readsAllCheck_52 (fun v9 u_3 hp => ?_)
      obtain ⟨r_4, rfl, hw⟩ := hp
      refine GK.at (p2 := 55) rfl ?_
      refine gk_istore_n (pc := 55) (lv' := [(1, Value.int r_4), (0, Value.ref G.2.2.1)]) C.1 dX6_readsAllCheck_55 rfl (by rw [hXn]; decide) rfl ?_
      refine gk_goto (pc := 56) (tgt := 40) C.1 dX6_readsAllCheck_56 (by decide) ?_
      refine GK.sub (lv' := [(0, .ref G.2.2.1), (1, .int r_4)]) [1, 0] rfl ?_
      exact ih _ _ hw
def wt_readsAllCheck (k : Int32 → TS → Prop) (u : TS) : Prop := ∀ u_1 : TS, u_1 = tpI u 43 0 → (∀ u_2 : TS, u_2 = tpI u_1 44 (-1) → (∀ u_3 : TS, u_3 = tpI u_2 45 0 → (∀ u_4 : TS, u_4 = tpI u_3 20 0 → (∀ u_5 : TS, u_5 = tpI u_4 23 0 → (∀ u_6 : TS, u_6 = tpI u_5 21 0 → (∀ u_7 : TS, u_7 = tpI u_6 22 0 → (wt_readsCheck (fun r_9 u_8 => ∃ fu : Nat, wt_readsAllCheck_40 k fu r_9 u_8) u_7)))))))
theorem wk_readsAllCheck (l : Launch) {G : TG} (hG : TD G) {k : Int32 → TS → Prop} {u : TS} (hw : wt_readsAllCheck k  u) : TMet l yX6_readsAllCheck cX6_readsAllCheck 2 (some .boolean) 7 G [.ref G.2.2.1] u (tI k) := by
  refine tk_met hG rfl (Nat.le_of_ble_eq_true rfl) (fun X hXl hXn hret C => ?_)
  subst hXl
  unfold wt_readsAllCheck at hw
  refine GK.sub (lv' := [(0, .ref G.2.2.1)]) [0] rfl ?_
  refine gk_aload_n (pc := 0) C.1 0 dX6_readsAllCheck_0 rfl rfl ?_
  refine gk_iconst (pc := 1) (v := 0) C.1 dX6_readsAllCheck_1 (by decide) ?_
  refine tk_putI (pc := 2) C (k := 43) (by decide) (by decide) q2164 rfl rfl (ty := .int) rfl rfl rfl dX6_readsAllCheck_2 (fun u_1 eu_1 => ?_)
  replace hw := hw u_1 eu_1
  refine gk_aload_n (pc := 5) C.1 0 dX6_readsAllCheck_5 rfl rfl ?_
  refine gk_iconst (pc := 6) (v := (-1)) C.1 dX6_readsAllCheck_6 (by decide) ?_
  refine tk_putI (pc := 7) C (k := 44) (by decide) (by decide) q2165 rfl rfl (ty := .int) rfl rfl rfl dX6_readsAllCheck_7 (fun u_2 eu_2 => ?_)
  replace hw := hw u_2 eu_2
  refine gk_aload_n (pc := 10) C.1 0 dX6_readsAllCheck_10 rfl rfl ?_
  refine gk_iconst (pc := 11) (v := 0) C.1 dX6_readsAllCheck_11 (by decide) ?_
  refine tk_putI (pc := 12) C (k := 45) (by decide) (by decide) q2166 rfl rfl (ty := .int) rfl rfl rfl dX6_readsAllCheck_12 (fun u_3 eu_3 => ?_)
  replace hw := hw u_3 eu_3
  refine gk_aload_n (pc := 15) C.1 0 dX6_readsAllCheck_15 rfl rfl ?_
  refine gk_iconst (pc := 16) (v := 0) C.1 dX6_readsAllCheck_16 (by decide) ?_
  refine tk_putI (pc := 17) C (k := 20) (by decide) (by decide) q2141 rfl rfl (ty := .int) rfl rfl rfl dX6_readsAllCheck_17 (fun u_4 eu_4 => ?_)
  replace hw := hw u_4 eu_4
  refine gk_aload_n (pc := 20) C.1 0 dX6_readsAllCheck_20 rfl rfl ?_
  refine gk_iconst (pc := 21) (v := 0) C.1 dX6_readsAllCheck_21 (by decide) ?_
  refine tk_putI (pc := 22) C (k := 23) (by decide) (by decide) q2144 rfl rfl (ty := .int) rfl rfl rfl dX6_readsAllCheck_22 (fun u_5 eu_5 => ?_)
  replace hw := hw u_5 eu_5
  refine gk_aload_n (pc := 25) C.1 0 dX6_readsAllCheck_25 rfl rfl ?_
  refine gk_iconst (pc := 26) (v := 0) C.1 dX6_readsAllCheck_26 (by decide) ?_
  refine tk_putI (pc := 27) C (k := 21) (by decide) (by decide) q2142 rfl rfl (ty := .int) rfl rfl rfl dX6_readsAllCheck_27 (fun u_6 eu_6 => ?_)
  replace hw := hw u_6 eu_6
  refine gk_aload_n (pc := 30) C.1 0 dX6_readsAllCheck_30 rfl rfl ?_
  refine gk_iconst (pc := 31) (v := 0) C.1 dX6_readsAllCheck_31 (by decide) ?_
  refine tk_putI (pc := 32) C (k := 22) (by decide) (by decide) q2143 rfl rfl (ty := .int) rfl rfl rfl dX6_readsAllCheck_32 (fun u_7 eu_7 => ?_)
  replace hw := hw u_7 eu_7
  refine gk_aload_n (pc := 35) C.1 0 dX6_readsAllCheck_35 rfl rfl ?_
  refine tk_callV (pc := 36) (y := yX6_readsCheck) (n := 0) (As := []) (rest := []) C (wk_readsCheck (ev_l X) hG hw) q2381 q2383 qs85 q2384 ⟨rfl, by decide +kernel⟩ ⟨by decide, by decide⟩ rfl rfl (Nat.le_of_ble_eq_true rfl) dX6_readsAllCheck_36 (fun v9 u_8 hp => ?_)
  obtain ⟨r_9, rfl, hw⟩ := hp
  refine GK.at (p2 := 39) rfl ?_
  refine gk_istore_n (pc := 39) (lv' := [(1, Value.int r_9), (0, Value.ref G.2.2.1)]) C.1 dX6_readsAllCheck_39 rfl (by rw [hXn]; decide) rfl ?_
  refine GK.sub (lv' := [(0, .ref G.2.2.1), (1, .int r_9)]) [1, 0] rfl ?_
  obtain ⟨n9, hw⟩ := hw
  exact kt_readsAllCheck_40 C hG hret hXn  n9 _ _ hw
/-! check()I -/
def wt_check_32 (k : Int32 → TS → Prop) (x1 : Int32) (u : TS) : Prop := wt_passesCheck (fun u_1 => ((x1 = 0 → (k ((-1000) - (u_1.2 43)) u_1)) ∧ (¬ x1 = 0 → (k ((-2000) - (u_1.2 44)) u_1)))) 1 0 u
theorem kt_check_32 {X : Ev} {G : TG} {k : Int32 → TS → Prop} (C : TC X G cX6_check 8) (hG : TD G) (hret : (ev_h X).sig.returnType = some .int) (hXn : ev_n X = 2) : ∀ (x1 : Int32) (u : TS), wt_check_32 k x1 u → GK X (TP G u) 0 0 (tQ X G (tI k)) 32 [(0, .ref G.2.2.1), (1, .int x1)] [] := by
  intro x1 u hw
  unfold wt_check_32 at hw
  refine gk_aload_n (pc := 32) C.1 0 dX6_check_32 rfl rfl ?_
  refine gk_iconst (pc := 33) (v := 1) C.1 dX6_check_33 (by decide) ?_
  refine gk_iconst (pc := 34) (v := 0) C.1 dX6_check_34 (by decide) ?_
  refine tk_callV (pc := 35) (y := yX6_passesCheck) (n := 2) (As := [.int 1, .int 0]) (rest := []) C (wk_passesCheck (ev_l X) hG hw) q2373 q2375 qs83 q2376 ⟨rfl, by decide +kernel⟩ ⟨by decide, by decide⟩ rfl rfl (Nat.le_of_ble_eq_true rfl) dX6_check_35 (fun v9 u_1 hp => ?_)
  obtain ⟨rfl, hw⟩ := hp
  refine GK.at (p2 := 38) rfl ?_
  refine gk_iload_n (pc := 38) C.1 1 dX6_check_38 rfl rfl ?_
  refine gk_if_eq (pc := 39) (tgt := 53) C.1 dX6_check_39 (by decide) (fun c_2 => ?_) (fun c_2 => ?_)
  · replace hw := hw.1 c_2
    refine gk_sipush (pc := 53) (v := (-1000)) C.1 dX6_check_53 (by decide) ?_
    refine gk_aload_n (pc := 56) C.1 0 dX6_check_56 rfl rfl ?_
    refine tk_getI (pc := 57) C (k := 43) (by decide) (by decide) q2164 rfl dX6_check_57 ?_
    refine gk_isub (pc := 60) C.1 dX6_check_60 ?_
    exact tk_iret (pc := 61) C hret dX6_check_61 hw
  · replace hw := hw.2 c_2
    refine gk_sipush (pc := 42) (v := (-2000)) C.1 dX6_check_42 (by decide) ?_
    refine gk_aload_n (pc := 45) C.1 0 dX6_check_45 rfl rfl ?_
    refine tk_getI (pc := 46) C (k := 44) (by decide) (by decide) q2165 rfl dX6_check_46 ?_
    refine gk_isub (pc := 49) C.1 dX6_check_49 ?_
    refine gk_goto (pc := 50) (tgt := 61) C.1 dX6_check_50 (by decide) ?_
    exact tk_iret (pc := 61) C hret dX6_check_61 hw
def wt_check (k : Int32 → TS → Prop) (u : TS) : Prop := wt_passesCheck (fun u_1 => wt_readsAllCheck (fun r_3 u_2 => ∀ u_4 : TS, u_4 = tpI u_2 42 0 → (((r_3 = 0 → (wt_check_32 k r_3 u_4)) ∧ (¬ r_3 = 0 → (((0 ≤ (u_4.2 44) → (wt_check_32 k r_3 u_4)) ∧ (¬ 0 ≤ (u_4.2 44) → (k (u_4.2 20) u_4)))))))) u_1) 1 1 u
theorem wk_check (l : Launch) {G : TG} (hG : TD G) {k : Int32 → TS → Prop} {u : TS} (hw : wt_check k  u) : TMet l yX6_check cX6_check 2 (some .int) 8 G [.ref G.2.2.1] u (tI k) := by
  refine tk_met hG rfl (Nat.le_of_ble_eq_true rfl) (fun X hXl hXn hret C => ?_)
  subst hXl
  unfold wt_check at hw
  refine GK.sub (lv' := [(0, .ref G.2.2.1)]) [0] rfl ?_
  refine gk_aload_n (pc := 0) C.1 0 dX6_check_0 rfl rfl ?_
  refine gk_iconst (pc := 1) (v := 1) C.1 dX6_check_1 (by decide) ?_
  refine gk_iconst (pc := 2) (v := 1) C.1 dX6_check_2 (by decide) ?_
  refine tk_callV (pc := 3) (y := yX6_passesCheck) (n := 2) (As := [.int 1, .int 1]) (rest := []) C (wk_passesCheck (ev_l X) hG hw) q2373 q2375 qs83 q2376 ⟨rfl, by decide +kernel⟩ ⟨by decide, by decide⟩ rfl rfl (Nat.le_of_ble_eq_true rfl) dX6_check_3 (fun v9 u_1 hp => ?_)
  obtain ⟨rfl, hw⟩ := hp
  refine GK.at (p2 := 6) rfl ?_
  refine gk_aload_n (pc := 6) C.1 0 dX6_check_6 rfl rfl ?_
  refine tk_callV (pc := 7) (y := yX6_readsAllCheck) (n := 0) (As := []) (rest := []) C (wk_readsAllCheck (ev_l X) hG hw) q2377 q2379 qs84 q2380 ⟨rfl, by decide +kernel⟩ ⟨by decide, by decide⟩ rfl rfl (Nat.le_of_ble_eq_true rfl) dX6_check_7 (fun v9 u_2 hp => ?_)
  obtain ⟨r_3, rfl, hw⟩ := hp
  refine GK.at (p2 := 10) rfl ?_
  refine gk_istore_n (pc := 10) (lv' := [(1, Value.int r_3), (0, Value.ref G.2.2.1)]) C.1 dX6_check_10 rfl (by rw [hXn]; decide) rfl ?_
  refine gk_aload_n (pc := 11) C.1 1 dX6_check_11 rfl rfl ?_
  refine gk_iconst (pc := 12) (v := 0) C.1 dX6_check_12 (by decide) ?_
  refine tk_putI (pc := 13) C (k := 42) (by decide) (by decide) q2163 rfl rfl (ty := .int) rfl rfl rfl dX6_check_13 (fun u_4 eu_4 => ?_)
  replace hw := hw u_4 eu_4
  refine gk_iload_n (pc := 16) C.1 0 dX6_check_16 rfl rfl ?_
  refine gk_if_eq (pc := 17) (tgt := 32) C.1 dX6_check_17 (by decide) (fun c_5 => ?_) (fun c_5 => ?_)
  · replace hw := hw.1 c_5
    refine GK.sub (lv' := [(0, .ref G.2.2.1), (1, .int r_3)]) [1, 0] rfl ?_
    exact kt_check_32 C hG hret hXn  _ _ hw
  · replace hw := hw.2 c_5
    refine gk_aload_n (pc := 20) C.1 1 dX6_check_20 rfl rfl ?_
    refine tk_getI (pc := 21) C (k := 44) (by decide) (by decide) q2165 rfl dX6_check_21 ?_
    refine gk_if_ge (pc := 24) (tgt := 32) C.1 dX6_check_24 (by decide) (fun c_6 => ?_) (fun c_6 => ?_)
    · replace hw := hw.1 c_6
      refine GK.sub (lv' := [(0, .ref G.2.2.1), (1, .int r_3)]) [1, 0] rfl ?_
      exact kt_check_32 C hG hret hXn  _ _ hw
    · replace hw := hw.2 c_6
      refine gk_aload_n (pc := 27) C.1 1 dX6_check_27 rfl rfl ?_
      refine tk_getI (pc := 28) C (k := 20) (by decide) (by decide) q2141 rfl dX6_check_28 ?_
      exact tk_iret (pc := 31) C hret dX6_check_31 hw
/-! clear()I -/
def wt_clear (k : Int32 → TS → Prop) (u : TS) : Prop := ∀ x_1 : Int32, x_1 = u.2 52 → (∀ u_2 : TS, u_2 = tpI u 52 0 → (k x_1 u_2))
theorem wk_clear (l : Launch) {G : TG} (hG : TD G) {k : Int32 → TS → Prop} {u : TS} (hw : wt_clear k  u) : TMet l yX6_clear cX6_clear 2 (some .int) 1 G [.ref G.2.2.1] u (tI k) := by
  refine tk_met hG rfl (Nat.le_of_ble_eq_true rfl) (fun X hXl hXn hret C => ?_)
  subst hXl
  unfold wt_clear at hw
  refine GK.sub (lv' := [(0, .ref G.2.2.1)]) [0] rfl ?_
  refine gk_aload_n (pc := 0) C.1 0 dX6_clear_0 rfl rfl ?_
  refine tk_getI (pc := 1) C (k := 52) (by decide) (by decide) q2173 rfl dX6_clear_1 ?_
  obtain ⟨x_1, ex_1⟩ : ∃ z : Int32, z = u.2 52 := ⟨_, rfl⟩
  rw [← ex_1]
  replace hw := hw x_1 ex_1
  refine gk_istore_n (pc := 4) (lv' := [(1, Value.int x_1), (0, Value.ref G.2.2.1)]) C.1 dX6_clear_4 rfl (by rw [hXn]; decide) rfl ?_
  refine gk_aload_n (pc := 5) C.1 1 dX6_clear_5 rfl rfl ?_
  refine gk_iconst (pc := 6) (v := 0) C.1 dX6_clear_6 (by decide) ?_
  refine tk_putI (pc := 7) C (k := 52) (by decide) (by decide) q2173 rfl rfl (ty := .int) rfl rfl rfl dX6_clear_7 (fun u_2 eu_2 => ?_)
  replace hw := hw u_2 eu_2
  refine gk_iload_n (pc := 10) C.1 0 dX6_clear_10 rfl rfl ?_
  exact tk_iret (pc := 11) C hret dX6_clear_11 hw
