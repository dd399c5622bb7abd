set_option maxRecDepth 100000
/-! on()I -/
def wt_on (k : Int32 → TS → Prop) (u : TS) : Prop := ((¬ (u.2 48) = 0 → (wt_passesValue (fun u_2 => wt_passesCheck (fun u_3 => k (u_3.2 6) u_3) 0 0 u_2) 0 0 u)) ∧ ((u.2 48) = 0 → (wt_no (fun r_5 u_4 => k r_5 u_4) (-3) u)))
theorem wk_on (l : Launch) {G : TG} (hG : TD G) {k : Int32 → TS → Prop} {u : TS} (hw : wt_on k  u) : TMet l yX6_on cX6_on 1 (some .int) 5 G [.ref G.2.2.1] u (tI k) := by
  refine tk_met hG rfl (Nat.le_of_ble_eq_true rfl) (fun X hXl hXn hret C => ?_)
  subst hXl
  unfold wt_on at hw
  refine GK.sub (lv' := [(0, .ref G.2.2.1)]) [0] rfl ?_
  refine gk_aload_n (pc := 0) C.1 0 dX6_on_0 rfl rfl ?_
  refine tk_getI (pc := 1) C (k := 48) (by decide) (by decide) q2169 rfl dX6_on_1 ?_
  refine gk_if_ne (pc := 4) (tgt := 14) C.1 dX6_on_4 (by decide) (fun c_1 => ?_) (fun c_1 => ?_)
  · replace hw := hw.1 c_1
    refine gk_aload_n (pc := 14) C.1 0 dX6_on_14 rfl rfl ?_
    refine gk_iconst (pc := 15) (v := 0) C.1 dX6_on_15 (by decide) ?_
    refine gk_iconst (pc := 16) (v := 0) C.1 dX6_on_16 (by decide) ?_
    refine tk_callV (pc := 17) (y := yX6_passesValue) (n := 2) (As := [.int 0, .int 0]) (rest := []) C (wk_passesValue (ev_l X) hG hw) q2299 q2301 qs67 q2302 ⟨rfl, by decide +kernel⟩ ⟨by decide, by decide⟩ rfl rfl (Nat.le_of_ble_eq_true rfl) dX6_on_17 (fun v9 u_2 hp => ?_)
    obtain ⟨rfl, hw⟩ := hp
    refine GK.at (p2 := 20) rfl ?_
    refine gk_aload_n (pc := 20) C.1 0 dX6_on_20 rfl rfl ?_
    refine gk_iconst (pc := 21) (v := 0) C.1 dX6_on_21 (by decide) ?_
    refine gk_iconst (pc := 22) (v := 0) C.1 dX6_on_22 (by decide) ?_
    refine tk_callV (pc := 23) (y := yX6_passesCheck) (n := 2) (As := [.int 0, .int 0]) (rest := []) C (wk_passesCheck (ev_l X) hG hw) q2373 q2375 qs83 q2376 ⟨rfl, by decide +kernel⟩ ⟨by decide, by decide⟩ rfl rfl (Nat.le_of_ble_eq_true rfl) dX6_on_23 (fun v9 u_3 hp => ?_)
    obtain ⟨rfl, hw⟩ := hp
    refine GK.at (p2 := 26) rfl ?_
    refine gk_aload_n (pc := 26) C.1 0 dX6_on_26 rfl rfl ?_
    refine tk_getI (pc := 27) C (k := 6) (by decide) (by decide) q2127 rfl dX6_on_27 ?_
    exact tk_iret (pc := 30) C hret dX6_on_30 hw
  · replace hw := hw.2 c_1
    refine gk_aload_n (pc := 7) C.1 0 dX6_on_7 rfl rfl ?_
    refine gk_bipush (pc := 8) (v := (-3)) C.1 dX6_on_8 (by decide) ?_
    refine tk_callV (pc := 10) (y := yX6_no) (n := 1) (As := [.int (-3)]) (rest := []) C (wk_no (ev_l X) hG hw) q2291 q2293 qs66 q2294 ⟨rfl, by decide +kernel⟩ ⟨by decide, by decide⟩ rfl rfl (Nat.le_of_ble_eq_true rfl) dX6_on_10 (fun v9 u_4 hp => ?_)
    obtain ⟨r_5, rfl, hw⟩ := hp
    refine GK.at (p2 := 13) rfl ?_
    exact tk_iret (pc := 13) C hret dX6_on_13 hw
/-! part(II)I -/
def wt_part (k : Int32 → TS → Prop) (x1 : Int32) (x2 : Int32) (u : TS) : Prop := wt_partAt (fun r_2 u_1 => ((0 ≤ r_2 → (((x2 = 0 → (vp_in r_2 21 ∧ (k (u_1.1 1 r_2.toNatClampNeg) u_1))) ∧ (¬ x2 = 0 → ((x2 = 1 → (vp_in r_2 21 ∧ (((¬ (u_1.1 1 r_2.toNatClampNeg) = 1 → (vp_in r_2 21 ∧ (k (u_1.1 2 r_2.toNatClampNeg) u_1))) ∧ ((u_1.1 1 r_2.toNatClampNeg) = 1 → (k 0 u_1)))))) ∧ (¬ x2 = 1 → ((x2 = 2 → (vp_in r_2 21 ∧ (k (u_1.1 4 r_2.toNatClampNeg) u_1))) ∧ (¬ x2 = 2 → ((x2 = 3 → (k r_2 u_1)) ∧ (¬ x2 = 3 → (wt_no (fun r_10 u_9 => k r_10 u_9) (-2) u_1))))))))))) ∧ (¬ 0 ≤ r_2 → (wt_no (fun r_12 u_11 => k r_12 u_11) (-1) u_1)))) x1 u
theorem wk_part (l : Launch) {G : TG} (hG : TD G) {k : Int32 → TS → Prop} {x1 : Int32} {x2 : Int32} {u : TS} (hw : wt_part k x1 x2 u) : TMet l yX6_part cX6_part 4 (some .int) 2 G [.ref G.2.2.1, .int x1, .int x2] u (tI k) := by
  refine tk_met hG rfl (Nat.le_of_ble_eq_true rfl) (fun X hXl hXn hret C => ?_)
  subst hXl
  unfold wt_part at hw
  refine GK.sub (lv' := [(0, .ref G.2.2.1), (1, .int x1), (2, .int x2)]) [0, 1, 2] rfl ?_
  refine gk_aload_n (pc := 0) C.1 0 dX6_part_0 rfl rfl ?_
  refine gk_iload_n (pc := 1) C.1 1 dX6_part_1 rfl rfl ?_
  refine tk_callV (pc := 2) (y := yX6_partAt) (n := 1) (As := [.int x1]) (rest := []) C (wk_partAt (ev_l X) hG hw) q2429 q2431 qs94 q2432 ⟨rfl, by decide +kernel⟩ ⟨by decide, by decide⟩ rfl rfl (Nat.le_of_ble_eq_true rfl) dX6_part_2 (fun v9 u_1 hp => ?_)
  obtain ⟨r_2, rfl, hw⟩ := hp
  refine GK.at (p2 := 5) rfl ?_
  refine gk_istore_n (pc := 5) (lv' := [(3, Value.int r_2), (0, Value.ref G.2.2.1), (1, Value.int x1), (2, Value.int x2)]) C.1 dX6_part_5 rfl (by rw [hXn]; decide) rfl ?_
  refine gk_iload_n (pc := 6) C.1 0 dX6_part_6 rfl rfl ?_
  refine gk_if_ge (pc := 7) (tgt := 16) C.1 dX6_part_7 (by decide) (fun c_3 => ?_) (fun c_3 => ?_)
  · replace hw := hw.1 c_3
    refine gk_iload_n (pc := 16) C.1 3 dX6_part_16 rfl rfl ?_
    by_cases c_4 : x2 = 0
    · replace hw := hw.1 c_4
      refine gk_tableIn (pc := 17) (off := 31) (tgt := 48) C.1 dX6_part_17 (by rw [c_4]; decide) (by rw [c_4]; decide) (by rw [c_4]; decide) (by decide) ?_
      refine gk_aload_n (pc := 48) C.1 1 dX6_part_48 rfl rfl ?_
      refine tk_getA (pc := 49) C (k := 1) (by decide) (by decide) q2122 rfl dX6_part_49 ?_
      refine gk_iload_n (pc := 52) C.1 0 dX6_part_52 rfl rfl ?_
      obtain ⟨hi, hw⟩ := hw
      refine tk_ald (pc := 53) C (k := 1) (by decide) hi dX6_part_53 ?_
      exact tk_iret (pc := 54) C hret dX6_part_54 hw
    · replace hw := hw.2 c_4
      by_cases c_5 : x2 = 1
      · replace hw := hw.1 c_5
        refine gk_tableIn (pc := 17) (off := 38) (tgt := 55) C.1 dX6_part_17 (by rw [c_5]; decide) (by rw [c_5]; decide) (by rw [c_5]; decide) (by decide) ?_
        refine gk_aload_n (pc := 55) C.1 1 dX6_part_55 rfl rfl ?_
        refine tk_getA (pc := 56) C (k := 1) (by decide) (by decide) q2122 rfl dX6_part_56 ?_
        refine gk_iload_n (pc := 59) C.1 0 dX6_part_59 rfl rfl ?_
        obtain ⟨hi, hw⟩ := hw
        refine tk_ald (pc := 60) C (k := 1) (by decide) hi dX6_part_60 ?_
        refine gk_iconst (pc := 61) (v := 1) C.1 dX6_part_61 (by decide) ?_
        refine gk_icmp_ne (pc := 62) (tgt := 69) C.1 dX6_part_62 (by decide) (fun c_6 => ?_) (fun c_6 => ?_)
        · replace hw := hw.1 c_6
          refine gk_aload_n (pc := 69) C.1 1 dX6_part_69 rfl rfl ?_
          refine tk_getA (pc := 70) C (k := 2) (by decide) (by decide) q2123 rfl dX6_part_70 ?_
          refine gk_iload_n (pc := 73) C.1 0 dX6_part_73 rfl rfl ?_
          obtain ⟨hi, hw⟩ := hw
          refine tk_ald (pc := 74) C (k := 2) (by decide) hi dX6_part_74 ?_
          exact tk_iret (pc := 75) C hret dX6_part_75 hw
        · replace hw := hw.2 c_6
          refine gk_iconst (pc := 65) (v := 0) C.1 dX6_part_65 (by decide) ?_
          refine gk_goto (pc := 66) (tgt := 75) C.1 dX6_part_66 (by decide) ?_
          exact tk_iret (pc := 75) C hret dX6_part_75 hw
      · replace hw := hw.2 c_5
        by_cases c_7 : x2 = 2
        · replace hw := hw.1 c_7
          refine gk_tableIn (pc := 17) (off := 59) (tgt := 76) C.1 dX6_part_17 (by rw [c_7]; decide) (by rw [c_7]; decide) (by rw [c_7]; decide) (by decide) ?_
          refine gk_aload_n (pc := 76) C.1 1 dX6_part_76 rfl rfl ?_
          refine tk_getA (pc := 77) C (k := 4) (by decide) (by decide) q2125 rfl dX6_part_77 ?_
          refine gk_iload_n (pc := 80) C.1 0 dX6_part_80 rfl rfl ?_
          obtain ⟨hi, hw⟩ := hw
          refine tk_ald (pc := 81) C (k := 4) (by decide) hi dX6_part_81 ?_
          exact tk_iret (pc := 82) C hret dX6_part_82 hw
        · replace hw := hw.2 c_7
          by_cases c_8 : x2 = 3
          · replace hw := hw.1 c_8
            refine gk_tableIn (pc := 17) (off := 66) (tgt := 83) C.1 dX6_part_17 (by rw [c_8]; decide) (by rw [c_8]; decide) (by rw [c_8]; decide) (by decide) ?_
            refine gk_iload_n (pc := 83) C.1 0 dX6_part_83 rfl rfl ?_
            exact tk_iret (pc := 84) C hret dX6_part_84 hw
          · replace hw := hw.2 c_8
            refine gk_tableOut (pc := 17) (tgt := 85) C.1 dX6_part_17 (by have z0 := lv_neT c_4 (a := 0) (by decide); have z1 := lv_neT c_5 (a := 1) (by decide); have z2 := lv_neT c_7 (a := 2) (by decide); have z3 := lv_neT c_8 (a := 3) (by decide); omega) (by decide) ?_
            refine gk_aload_n (pc := 85) C.1 1 dX6_part_85 rfl rfl ?_
            refine gk_bipush (pc := 86) (v := (-2)) C.1 dX6_part_86 (by decide) ?_
            refine tk_callV (pc := 88) (y := yX6_no) (n := 1) (As := [.int (-2)]) (rest := []) C (wk_no (ev_l X) hG hw) q2291 q2293 qs66 q2294 ⟨rfl, by decide +kernel⟩ ⟨by decide, by decide⟩ rfl rfl (Nat.le_of_ble_eq_true rfl) dX6_part_88 (fun v9 u_9 hp => ?_)
            obtain ⟨r_10, rfl, hw⟩ := hp
            refine GK.at (p2 := 91) rfl ?_
            exact tk_iret (pc := 91) C hret dX6_part_91 hw
  · replace hw := hw.2 c_3
    refine gk_aload_n (pc := 10) C.1 1 dX6_part_10 rfl rfl ?_
    refine gk_iconst (pc := 11) (v := (-1)) C.1 dX6_part_11 (by decide) ?_
    refine tk_callV (pc := 12) (y := yX6_no) (n := 1) (As := [.int (-1)]) (rest := []) C (wk_no (ev_l X) hG hw) q2291 q2293 qs66 q2294 ⟨rfl, by decide +kernel⟩ ⟨by decide, by decide⟩ rfl rfl (Nat.le_of_ble_eq_true rfl) dX6_part_12 (fun v9 u_11 hp => ?_)
    obtain ⟨r_12, rfl, hw⟩ := hp
    refine GK.at (p2 := 15) rfl ?_
    exact tk_iret (pc := 15) C hret dX6_part_15 hw
/-! path(I)I -/
def wt_path (k : Int32 → TS → Prop) (x1 : Int32) (u : TS) : Prop := wt_isIn (fun r_2 u_1 => ((r_2 = 0 → (wt_no (fun r_5 u_4 => k r_5 u_4) (-1) u_1)) ∧ (¬ r_2 = 0 → (vp_in x1 21 ∧ (k (u_1.1 5 x1.toNatClampNeg) u_1))))) x1 0 ((u.2 6) - 1) u
theorem wk_path (l : Launch) {G : TG} (hG : TD G) {k : Int32 → TS → Prop} {x1 : Int32} {u : TS} (hw : wt_path k x1 u) : TMet l yX6_path cX6_path 2 (some .int) 2 G [.ref G.2.2.1, .int x1] u (tI k) := by
  refine tk_met hG rfl (Nat.le_of_ble_eq_true rfl) (fun X hXl hXn hret C => ?_)
  subst hXl
  unfold wt_path at hw
  refine GK.sub (lv' := [(0, .ref G.2.2.1), (1, .int x1)]) [0, 1] rfl ?_
  refine gk_iload_n (pc := 0) C.1 1 dX6_path_0 rfl rfl ?_
  refine gk_iconst (pc := 1) (v := 0) C.1 dX6_path_1 (by decide) ?_
  refine gk_aload_n (pc := 2) C.1 0 dX6_path_2 rfl rfl ?_
  refine tk_getI (pc := 3) C (k := 6) (by decide) (by decide) q2127 rfl dX6_path_3 ?_
  refine gk_iconst (pc := 6) (v := 1) C.1 dX6_path_6 (by decide) ?_
  refine gk_isub (pc := 7) C.1 dX6_path_7 ?_
  refine tk_callS (pc := 8) (y := yX6_isIn) (n := 3) (As := [.int x1, .int 0, .int ((u.2 6) - 1)]) (rest := []) C (wk_isIn (ev_l X) hG hw) q2323 q2324 q2325 ⟨rfl, by decide +kernel⟩ ⟨by decide, by decide⟩ rfl rfl (Nat.le_of_ble_eq_true rfl) dX6_path_8 (fun v9 u_1 hp => ?_)
  obtain ⟨r_2, rfl, hw⟩ := hp
  refine GK.at (p2 := 11) rfl ?_
  refine gk_if_eq (pc := 11) (tgt := 23) C.1 dX6_path_11 (by decide) (fun c_3 => ?_) (fun c_3 => ?_)
  · replace hw := hw.1 c_3
    refine gk_aload_n (pc := 23) C.1 0 dX6_path_23 rfl rfl ?_
    refine gk_iconst (pc := 24) (v := (-1)) C.1 dX6_path_24 (by decide) ?_
    refine tk_callV (pc := 25) (y := yX6_no) (n := 1) (As := [.int (-1)]) (rest := []) C (wk_no (ev_l X) hG hw) q2291 q2293 qs66 q2294 ⟨rfl, by decide +kernel⟩ ⟨by decide, by decide⟩ rfl rfl (Nat.le_of_ble_eq_true rfl) dX6_path_25 (fun v9 u_4 hp => ?_)
    obtain ⟨r_5, rfl, hw⟩ := hp
    refine GK.at (p2 := 28) rfl ?_
    exact tk_iret (pc := 28) C hret dX6_path_28 hw
  · replace hw := hw.2 c_3
    refine gk_aload_n (pc := 14) C.1 0 dX6_path_14 rfl rfl ?_
    refine tk_getA (pc := 15) C (k := 5) (by decide) (by decide) q2126 rfl dX6_path_15 ?_
    refine gk_iload_n (pc := 18) C.1 1 dX6_path_18 rfl rfl ?_
    obtain ⟨hi, hw⟩ := hw
    refine tk_ald (pc := 19) C (k := 5) (by decide) hi dX6_path_19 ?_
    refine gk_goto (pc := 20) (tgt := 28) C.1 dX6_path_20 (by decide) ?_
    exact tk_iret (pc := 28) C hret dX6_path_28 hw
/-! puts(II)I -/
def wt_puts_21 (k : Int32 → TS → Prop) (x2 : Int32) (x3 : Int32) (s0 : Int32) (u : TS) : Prop := ((s0 = 0 → (vp_in x3 21 ∧ (∀ x_2 : Int32, x_2 = u.1 4 x3.toNatClampNeg → (wt_putsAt (fun u_3 => k x_2 u_3) x3 0 x2 u)))) ∧ (¬ s0 = 0 → (wt_no (fun r_5 u_4 => k r_5 u_4) s0 u)))
theorem kt_puts_21 {X : Ev} {G : TG} {k : Int32 → TS → Prop} (C : TC X G cX6_puts 5) (hG : TD G) (hret : (ev_h X).sig.returnType = some .int) (hXn : ev_n X = 6) : ∀ (x2 : Int32) (x3 : Int32) (s0 : Int32) (u : TS), wt_puts_21 k x2 x3 s0 u → GK X (TP G u) 0 0 (tQ X G (tI k)) 21 [(0, .ref G.2.2.1), (2, .int x2), (3, .int x3)] [.int s0] := by
  intro x2 x3 s0 u hw
  unfold wt_puts_21 at hw
  refine gk_istore (pc := 21) (lv' := [(4, Value.int s0), (0, Value.ref G.2.2.1), (2, Value.int x2), (3, Value.int x3)]) C.1 dX6_puts_21 (by rw [hXn]; decide) rfl ?_
  refine gk_iload (pc := 23) C.1 0 dX6_puts_23 rfl ?_
  refine gk_if_eq (pc := 25) (tgt := 35) C.1 dX6_puts_25 (by decide) (fun c_1 => ?_) (fun c_1 => ?_)
  · replace hw := hw.1 c_1
    refine gk_aload_n (pc := 35) C.1 1 dX6_puts_35 rfl rfl ?_
    refine tk_getA (pc := 36) C (k := 4) (by decide) (by decide) q2125 rfl dX6_puts_36 ?_
    refine gk_iload_n (pc := 39) C.1 3 dX6_puts_39 rfl rfl ?_
    obtain ⟨hi, hw⟩ := hw
    refine tk_ald (pc := 40) C (k := 4) (by decide) hi dX6_puts_40 ?_
    obtain ⟨x_2, ex_2⟩ : ∃ z : Int32, z = u.1 4 x3.toNatClampNeg := ⟨_, rfl⟩
    rw [← ex_2]
    replace hw := hw x_2 ex_2
    refine gk_istore (pc := 41) (lv' := [(5, Value.int x_2), (4, Value.int s0), (0, Value.ref G.2.2.1), (2, Value.int x2), (3, Value.int x3)]) C.1 dX6_puts_41 (by rw [hXn]; decide) rfl ?_
    refine gk_aload_n (pc := 43) C.1 2 dX6_puts_43 rfl rfl ?_
    refine gk_iload_n (pc := 44) C.1 4 dX6_puts_44 rfl rfl ?_
    refine gk_iconst (pc := 45) (v := 0) C.1 dX6_puts_45 (by decide) ?_
    refine gk_iload_n (pc := 46) C.1 3 dX6_puts_46 rfl rfl ?_
    refine tk_callV (pc := 47) (y := yX6_putsAt) (n := 3) (As := [.int x3, .int 0, .int x2]) (rest := []) C (wk_putsAt (ev_l X) hG hw) q2441 q2443 qs95 q2444 ⟨rfl, by decide +kernel⟩ ⟨by decide, by decide⟩ rfl rfl (Nat.le_of_ble_eq_true rfl) dX6_puts_47 (fun v9 u_3 hp => ?_)
    obtain ⟨rfl, hw⟩ := hp
    refine GK.at (p2 := 50) rfl ?_
    refine gk_iload (pc := 50) C.1 0 dX6_puts_50 rfl ?_
    exact tk_iret (pc := 52) C hret dX6_puts_52 hw
  · replace hw := hw.2 c_1
    refine gk_aload_n (pc := 28) C.1 1 dX6_puts_28 rfl rfl ?_
    refine gk_iload (pc := 29) C.1 0 dX6_puts_29 rfl ?_
    refine tk_callV (pc := 31) (y := yX6_no) (n := 1) (As := [.int s0]) (rest := []) C (wk_no (ev_l X) hG hw) q2291 q2293 qs66 q2294 ⟨rfl, by decide +kernel⟩ ⟨by decide, by decide⟩ rfl rfl (Nat.le_of_ble_eq_true rfl) dX6_puts_31 (fun v9 u_4 hp => ?_)
    obtain ⟨r_5, rfl, hw⟩ := hp
    refine GK.at (p2 := 34) rfl ?_
    exact tk_iret (pc := 34) C hret dX6_puts_34 hw
def wt_puts (k : Int32 → TS → Prop) (x1 : Int32) (x2 : Int32) (u : TS) : Prop := wt_partAt (fun r_2 u_1 => ((0 ≤ r_2 → (wt_bound (fun r_5 u_4 => wt_puts_21 k x2 r_2 r_5 u_4) x2 0 99 u_1)) ∧ (¬ 0 ≤ r_2 → (wt_puts_21 k x2 r_2 (-1) u_1)))) x1 u
theorem wk_puts (l : Launch) {G : TG} (hG : TD G) {k : Int32 → TS → Prop} {x1 : Int32} {x2 : Int32} {u : TS} (hw : wt_puts k x1 x2 u) : TMet l yX6_puts cX6_puts 6 (some .int) 5 G [.ref G.2.2.1, .int x1, .int x2] u (tI k) := by
  refine tk_met hG rfl (Nat.le_of_ble_eq_true rfl) (fun X hXl hXn hret C => ?_)
  subst hXl
  unfold wt_puts at hw
  refine GK.sub (lv' := [(0, .ref G.2.2.1), (1, .int x1), (2, .int x2)]) [0, 1, 2] rfl ?_
  refine gk_aload_n (pc := 0) C.1 0 dX6_puts_0 rfl rfl ?_
  refine gk_iload_n (pc := 1) C.1 1 dX6_puts_1 rfl rfl ?_
  refine tk_callV (pc := 2) (y := yX6_partAt) (n := 1) (As := [.int x1]) (rest := []) C (wk_partAt (ev_l X) hG hw) q2429 q2431 qs94 q2432 ⟨rfl, by decide +kernel⟩ ⟨by decide, by decide⟩ rfl rfl (Nat.le_of_ble_eq_true rfl) dX6_puts_2 (fun v9 u_1 hp => ?_)
  obtain ⟨r_2, rfl, hw⟩ := hp
  refine GK.at (p2 := 5) rfl ?_
  refine gk_istore_n (pc := 5) (lv' := [(3, Value.int r_2), (0, Value.ref G.2.2.1), (1, Value.int x1), (2, Value.int x2)]) C.1 dX6_puts_5 rfl (by rw [hXn]; decide) rfl ?_
  refine gk_iload_n (pc := 6) C.1 0 dX6_puts_6 rfl rfl ?_
  refine gk_if_ge (pc := 7) (tgt := 14) C.1 dX6_puts_7 (by decide) (fun c_3 => ?_) (fun c_3 => ?_)
  · replace hw := hw.1 c_3
    refine gk_iload_n (pc := 14) C.1 3 dX6_puts_14 rfl rfl ?_
    refine gk_iconst (pc := 15) (v := 0) C.1 dX6_puts_15 (by decide) ?_
    refine gk_bipush (pc := 16) (v := 99) C.1 dX6_puts_16 (by decide) ?_
    refine tk_callS (pc := 18) (y := yX6_bound) (n := 3) (As := [.int x2, .int 0, .int 99]) (rest := []) C (wk_bound (ev_l X) hG hw) q2288 q2289 q2290 ⟨rfl, by decide +kernel⟩ ⟨by decide, by decide⟩ rfl rfl (Nat.le_of_ble_eq_true rfl) dX6_puts_18 (fun v9 u_4 hp => ?_)
    obtain ⟨r_5, rfl, hw⟩ := hp
    refine GK.at (p2 := 21) rfl ?_
    refine GK.sub (lv' := [(0, .ref G.2.2.1), (2, .int x2), (3, .int r_2)]) [1, 3, 0] rfl ?_
    exact kt_puts_21 C hG hret hXn  _ _ _ _ hw
  · replace hw := hw.2 c_3
    refine gk_iconst (pc := 10) (v := (-1)) C.1 dX6_puts_10 (by decide) ?_
    refine gk_goto (pc := 11) (tgt := 21) C.1 dX6_puts_11 (by decide) ?_
    refine GK.sub (lv' := [(0, .ref G.2.2.1), (2, .int x2), (3, .int r_2)]) [1, 3, 0] rfl ?_
    exact kt_puts_21 C hG hret hXn  _ _ _ _ hw
/-! range(II)I -/
def wt_range_99 (k : Int32 → TS → Prop) (J54 : Int32 → Int32 → Int32 → Int32 → Int32 → Int32 → TS → Prop) (x1 : Int32) (x2 : Int32) (x3 : Int32) (x5 : Int32) (x6 : Int32) (x7 : Int32) (u : TS) : Prop := ∀ x_1 : Int32, x_1 = x7 + 1 → (J54 x1 x2 x3 x5 x6 x_1 u)
theorem kt_range_99 {X : Ev} {G : TG} {k : Int32 → TS → Prop} {J54 : Int32 → Int32 → Int32 → Int32 → Int32 → Int32 → TS → Prop} (C : TC X G cX6_range 11) (hG : TD G) (hret : (ev_h X).sig.returnType = some .int) (hXn : ev_n X = 8) (hJ54 : ∀ (x1 : Int32) (x2 : Int32) (x3 : Int32) (x5 : Int32) (x6 : Int32) (x7 : Int32) (u : TS), J54 x1 x2 x3 x5 x6 x7 u → GK X (TP G u) 0 0 (tQ X G (tI k)) 54 [(0, .ref G.2.2.1), (1, .int x1), (2, .int x2), (3, .int x3), (5, .int x5), (6, .int x6), (7, .int x7)] []) : ∀ (x1 : Int32) (x2 : Int32) (x3 : Int32) (x5 : Int32) (x6 : Int32) (x7 : Int32) (u : TS), wt_range_99 k J54 x1 x2 x3 x5 x6 x7 u → GK X (TP G u) 0 0 (tQ X G (tI k)) 99 [(0, .ref G.2.2.1), (1, .int x1), (2, .int x2), (3, .int x3), (5, .int x5), (6, .int x6), (7, .int x7)] [] := by
  intro x1 x2 x3 x5 x6 x7 u hw
  unfold wt_range_99 at hw
  obtain ⟨x_1, ex_1⟩ : ∃ z : Int32, z = x7 + 1 := ⟨_, rfl⟩
  replace hw := hw x_1 ex_1
  refine gk_iinc (pc := 99) (v := x_1) (lv' := [(7, Value.int x_1), (0, Value.ref G.2.2.1), (1, Value.int x1), (2, Value.int x2), (3, Value.int x3), (5, Value.int x5), (6, Value.int x6)]) C.1 6 dX6_range_99 rfl (by rw [ex_1]; rfl) (by rw [hXn]; decide) rfl ?_
  refine gk_goto (pc := 102) (tgt := 54) C.1 dX6_range_102 (by decide) ?_
  refine GK.sub (lv' := [(0, .ref G.2.2.1), (1, .int x1), (2, .int x2), (3, .int x3), (5, .int x5), (6, .int x6), (7, .int x_1)]) [1, 2, 3, 4, 5, 6, 0] rfl ?_
  exact hJ54 _ _ _ _ _ _ _ hw
def wt_range_93 (k : Int32 → TS → Prop) (J54 : Int32 → Int32 → Int32 → Int32 → Int32 → Int32 → TS → Prop) (x1 : Int32) (x2 : Int32) (x3 : Int32) (x7 : Int32) (s0 : Int32) (u : TS) : Prop := wt_range_99 k J54 x1 x2 x3 s0 x7 x7 u
theorem kt_range_93 {X : Ev} {G : TG} {k : Int32 → TS → Prop} {J54 : Int32 → Int32 → Int32 → Int32 → Int32 → Int32 → TS → Prop} (C : TC X G cX6_range 11) (hG : TD G) (hret : (ev_h X).sig.returnType = some .int) (hXn : ev_n X = 8) (hJ54 : ∀ (x1 : Int32) (x2 : Int32) (x3 : Int32) (x5 : Int32) (x6 : Int32) (x7 : Int32) (u : TS), J54 x1 x2 x3 x5 x6 x7 u → GK X (TP G u) 0 0 (tQ X G (tI k)) 54 [(0, .ref G.2.2.1), (1, .int x1), (2, .int x2), (3, .int x3), (5, .int x5), (6, .int x6), (7, .int x7)] []) : ∀ (x1 : Int32) (x2 : Int32) (x3 : Int32) (x7 : Int32) (s0 : Int32) (u : TS), wt_range_93 k J54 x1 x2 x3 x7 s0 u → GK X (TP G u) 0 0 (tQ X G (tI k)) 93 [(0, .ref G.2.2.1), (1, .int x1), (2, .int x2), (3, .int x3), (7, .int x7)] [.int s0] := by
  intro x1 x2 x3 x7 s0 u hw
  unfold wt_range_93 at hw
  refine gk_istore (pc := 93) (lv' := [(5, Value.int s0), (0, Value.ref G.2.2.1), (1, Value.int x1), (2, Value.int x2), (3, Value.int x3), (7, Value.int x7)]) C.1 dX6_range_93 (by rw [hXn]; decide) rfl ?_
  refine gk_iload (pc := 95) C.1 5 dX6_range_95 rfl ?_
  refine gk_istore (pc := 97) (lv' := [(6, Value.int x7), (5, Value.int s0), (0, Value.ref G.2.2.1), (1, Value.int x1), (2, Value.int x2), (3, Value.int x3), (7, Value.int x7)]) C.1 dX6_range_97 (by rw [hXn]; decide) rfl ?_
  refine GK.sub (lv' := [(0, .ref G.2.2.1), (1, .int x1), (2, .int x2), (3, .int x3), (5, .int s0), (6, .int x7), (7, .int x7)]) [2, 3, 4, 5, 1, 0, 6] rfl ?_
  exact kt_range_99 C hG hret hXn hJ54 _ _ _ _ _ _ _ hw
def wt_range_54 (k : Int32 → TS → Prop) : Nat → Int32 → Int32 → Int32 → Int32 → Int32 → Int32 → TS → Prop
  | 0 => fun _ _ _ _ _ _ _ => False
  | n + 1 => fun x1 x2 x3 x5 x6 x7 u => ((99 < x7 → (((¬ x2 = 0 → (k x6 u)) ∧ (x2 = 0 → (k x5 u))))) ∧ (¬ 99 < x7 → (wt_faultsWith (fun r_4 u_3 => wt_isAnyBelow (fun r_6 u_5 => ((r_6 = 0 → (((0 ≤ x5 → (wt_range_93 k (fun yx1 yx2 yx3 yx5 yx6 yx7 yu => wt_range_54 k n yx1 yx2 yx3 yx5 yx6 yx7 yu) x1 x2 x3 x7 x5 u_5)) ∧ (¬ 0 ≤ x5 → (wt_range_93 k (fun yx1 yx2 yx3 yx5 yx6 yx7 yu => wt_range_54 k n yx1 yx2 yx3 yx5 yx6 yx7 yu) x1 x2 x3 x7 x7 u_5))))) ∧ (¬ r_6 = 0 → (wt_range_99 k (fun yx1 yx2 yx3 yx5 yx6 yx7 yu => wt_range_54 k n yx1 yx2 yx3 yx5 yx6 yx7 yu) x1 x2 x3 x5 x6 x7 u_5)))) 0 x1 u_3) x3 x7 u)))
theorem kt_range_54 {X : Ev} {G : TG} {k : Int32 → TS → Prop} (C : TC X G cX6_range 11) (hG : TD G) (hret : (ev_h X).sig.returnType = some .int) (hXn : ev_n X = 8) : ∀ (n : Nat) (x1 : Int32) (x2 : Int32) (x3 : Int32) (x5 : Int32) (x6 : Int32) (x7 : Int32) (u : TS), wt_range_54 k n x1 x2 x3 x5 x6 x7 u → GK X (TP G u) 0 0 (tQ X G (tI k)) 54 [(0, .ref G.2.2.1), (1, .int x1), (2, .int x2), (3, .int x3), (5, .int x5), (6, .int x6), (7, .int x7)] [] := by
  intro n
  induction n with
  | zero => intro x1 x2 x3 x5 x6 x7 u hw; exact hw.elim
  | succ n ih =>
  intro x1 x2 x3 x5 x6 x7 u hw
  unfold wt_range_54 at hw
  refine gk_iload (pc := 54) C.1 6 dX6_range_54 rfl ?_
  refine gk_bipush (pc := 56) (v := 99) C.1 dX6_range_56 (by decide) ?_
  refine gk_icmp_gt (pc := 58) (tgt := 105) C.1 dX6_range_58 (by decide) (fun c_1 => ?_) (fun c_1 => ?_)
  · replace hw := hw.1 c_1
    refine gk_iload_n (pc := 105) C.1 2 dX6_range_105 rfl rfl ?_
    refine gk_if_ne (pc := 106) (tgt := 114) C.1 dX6_range_106 (by decide) (fun c_2 => ?_) (fun c_2 => ?_)
    · replace hw := hw.1 c_2
      refine gk_iload (pc := 114) C.1 5 dX6_range_114 rfl ?_
      exact tk_iret (pc := 116) C hret dX6_range_116 hw
    · replace hw := hw.2 c_2
      refine gk_iload (pc := 109) C.1 4 dX6_range_109 rfl ?_
      refine gk_goto (pc := 111) (tgt := 116) C.1 dX6_range_111 (by decide) ?_
      exact tk_iret (pc := 116) C hret dX6_range_116 hw
  · replace hw := hw.2 c_1
    refine gk_aload_n (pc := 61) C.1 0 dX6_range_61 rfl rfl ?_
    refine gk_iload_n (pc := 62) C.1 3 dX6_range_62 rfl rfl ?_
    refine gk_iload (pc := 63) C.1 6 dX6_range_63 rfl ?_
    refine tk_callV (pc := 65) (y := yX6_faultsWith) (n := 2) (As := [.int x3, .int x7]) (rest := []) C (wk_faultsWith (ev_l X) hG hw) q2640 q2642 qs129 q2643 ⟨rfl, by decide +kernel⟩ ⟨by decide, by decide⟩ rfl rfl (Nat.le_of_ble_eq_true rfl) dX6_range_65 (fun v9 u_3 hp => ?_)
    obtain ⟨r_4, rfl, hw⟩ := hp
    refine GK.at (p2 := 68) rfl ?_
    refine gk_pop (pc := 68) C.1 dX6_range_68 rfl ?_
    refine gk_aload_n (pc := 69) C.1 0 dX6_range_69 rfl rfl ?_
    refine gk_iconst (pc := 70) (v := 0) C.1 dX6_range_70 (by decide) ?_
    refine gk_iload_n (pc := 71) C.1 1 dX6_range_71 rfl rfl ?_
    refine tk_callV (pc := 72) (y := yX6_isAnyBelow) (n := 2) (As := [.int 0, .int x1]) (rest := []) C (wk_isAnyBelow (ev_l X) hG hw) q2521 q2523 qs113 q2524 ⟨rfl, by decide +kernel⟩ ⟨by decide, by decide⟩ rfl rfl (Nat.le_of_ble_eq_true rfl) dX6_range_72 (fun v9 u_5 hp => ?_)
    obtain ⟨r_6, rfl, hw⟩ := hp
    refine GK.at (p2 := 75) rfl ?_
    refine gk_if_eq (pc := 75) (tgt := 81) C.1 dX6_range_75 (by decide) (fun c_7 => ?_) (fun c_7 => ?_)
    · replace hw := hw.1 c_7
      refine gk_iload (pc := 81) C.1 4 dX6_range_81 rfl ?_
      refine gk_if_ge (pc := 83) (tgt := 91) C.1 dX6_range_83 (by decide) (fun c_8 => ?_) (fun c_8 => ?_)
      · replace hw := hw.1 c_8
        refine gk_iload (pc := 91) C.1 4 dX6_range_91 rfl ?_
        refine GK.sub (lv' := [(0, .ref G.2.2.1), (1, .int x1), (2, .int x2), (3, .int x3), (7, .int x7)]) [0, 1, 2, 3, 6] rfl ?_
        exact kt_range_93 C hG hret hXn ih _ _ _ _ _ _ hw
      · replace hw := hw.2 c_8
        refine gk_iload (pc := 86) C.1 6 dX6_range_86 rfl ?_
        refine gk_goto (pc := 88) (tgt := 93) C.1 dX6_range_88 (by decide) ?_
        refine GK.sub (lv' := [(0, .ref G.2.2.1), (1, .int x1), (2, .int x2), (3, .int x3), (7, .int x7)]) [0, 1, 2, 3, 6] rfl ?_
        exact kt_range_93 C hG hret hXn ih _ _ _ _ _ _ hw
    · replace hw := hw.2 c_7
      refine gk_goto (pc := 78) (tgt := 99) C.1 dX6_range_78 (by decide) ?_
      refine GK.sub (lv' := [(0, .ref G.2.2.1), (1, .int x1), (2, .int x2), (3, .int x3), (5, .int x5), (6, .int x6), (7, .int x7)]) [0, 1, 2, 3, 4, 5, 6] rfl ?_
      exact kt_range_99 C hG hret hXn ih _ _ _ _ _ _ _ hw
def wt_range_29 (k : Int32 → TS → Prop) (x1 : Int32) (x2 : Int32) (x3 : Int32) (s0 : Int32) (u : TS) : Prop := ((s0 = 0 → (∃ fu : Nat, wt_range_54 k fu x1 x2 x3 (-9) (-9) 0 u)) ∧ (¬ s0 = 0 → (wt_no (fun r_3 u_2 => k r_3 u_2) s0 u)))
theorem kt_range_29 {X : Ev} {G : TG} {k : Int32 → TS → Prop} (C : TC X G cX6_range 11) (hG : TD G) (hret : (ev_h X).sig.returnType = some .int) (hXn : ev_n X = 8) : ∀ (x1 : Int32) (x2 : Int32) (x3 : Int32) (s0 : Int32) (u : TS), wt_range_29 k x1 x2 x3 s0 u → GK X (TP G u) 0 0 (tQ X G (tI k)) 29 [(0, .ref G.2.2.1), (1, .int x1), (2, .int x2), (3, .int x3)] [.int s0] := by
  intro x1 x2 x3 s0 u hw
  unfold wt_range_29 at hw
  refine gk_istore (pc := 29) (lv' := [(4, Value.int s0), (0, Value.ref G.2.2.1), (1, Value.int x1), (2, Value.int x2), (3, Value.int x3)]) C.1 dX6_range_29 (by rw [hXn]; decide) rfl ?_
  refine gk_iload (pc := 31) C.1 0 dX6_range_31 rfl ?_
  refine gk_if_eq (pc := 33) (tgt := 43) C.1 dX6_range_33 (by decide) (fun c_1 => ?_) (fun c_1 => ?_)
  · replace hw := hw.1 c_1
    refine gk_bipush (pc := 43) (v := (-9)) C.1 dX6_range_43 (by decide) ?_
    refine gk_istore (pc := 45) (lv' := [(5, Value.int (-9)), (4, Value.int s0), (0, Value.ref G.2.2.1), (1, Value.int x1), (2, Value.int x2), (3, Value.int x3)]) C.1 dX6_range_45 (by rw [hXn]; decide) rfl ?_
    refine gk_bipush (pc := 47) (v := (-9)) C.1 dX6_range_47 (by decide) ?_
    refine gk_istore (pc := 49) (lv' := [(6, Value.int (-9)), (5, Value.int (-9)), (4, Value.int s0), (0, Value.ref G.2.2.1), (1, Value.int x1), (2, Value.int x2), (3, Value.int x3)]) C.1 dX6_range_49 (by rw [hXn]; decide) rfl ?_
    refine gk_iconst (pc := 51) (v := 0) C.1 dX6_range_51 (by decide) ?_
    refine gk_istore (pc := 52) (lv' := [(7, Value.int 0), (6, Value.int (-9)), (5, Value.int (-9)), (4, Value.int s0), (0, Value.ref G.2.2.1), (1, Value.int x1), (2, Value.int x2), (3, Value.int x3)]) C.1 dX6_range_52 (by rw [hXn]; decide) rfl ?_
    refine GK.sub (lv' := [(0, .ref G.2.2.1), (1, .int x1), (2, .int x2), (3, .int x3), (5, .int (-9)), (6, .int (-9)), (7, .int 0)]) [4, 5, 6, 7, 2, 1, 0] rfl ?_
    obtain ⟨n9, hw⟩ := hw
    exact kt_range_54 C hG hret hXn  n9 _ _ _ _ _ _ _ hw
  · replace hw := hw.2 c_1
    refine gk_aload_n (pc := 36) C.1 1 dX6_range_36 rfl rfl ?_
    refine gk_iload (pc := 37) C.1 0 dX6_range_37 rfl ?_
    refine tk_callV (pc := 39) (y := yX6_no) (n := 1) (As := [.int s0]) (rest := []) C (wk_no (ev_l X) hG hw) q2291 q2293 qs66 q2294 ⟨rfl, by decide +kernel⟩ ⟨by decide, by decide⟩ rfl rfl (Nat.le_of_ble_eq_true rfl) dX6_range_39 (fun v9 u_2 hp => ?_)
    obtain ⟨r_3, rfl, hw⟩ := hp
    refine GK.at (p2 := 42) rfl ?_
    exact tk_iret (pc := 42) C hret dX6_range_42 hw
def wt_range (k : Int32 → TS → Prop) (x1 : Int32) (x2 : Int32) (u : TS) : Prop := wt_partAt (fun r_2 u_1 => ((0 ≤ r_2 → (wt_isIn (fun r_5 u_4 => ((¬ r_5 = 0 → (wt_range_29 k x1 x2 r_2 0 u_4)) ∧ (r_5 = 0 → (wt_range_29 k x1 x2 r_2 (-2) u_4)))) x2 0 1 u_1)) ∧ (¬ 0 ≤ r_2 → (wt_range_29 k x1 x2 r_2 (-1) u_1)))) x1 u
theorem wk_range (l : Launch) {G : TG} (hG : TD G) {k : Int32 → TS → Prop} {x1 : Int32} {x2 : Int32} {u : TS} (hw : wt_range k x1 x2 u) : TMet l yX6_range cX6_range 8 (some .int) 11 G [.ref G.2.2.1, .int x1, .int x2] u (tI k) := by
  refine tk_met hG rfl (Nat.le_of_ble_eq_true rfl) (fun X hXl hXn hret C => ?_)
  subst hXl
  unfold wt_range at hw
  refine GK.sub (lv' := [(0, .ref G.2.2.1), (1, .int x1), (2, .int x2)]) [0, 1, 2] rfl ?_
  refine gk_aload_n (pc := 0) C.1 0 dX6_range_0 rfl rfl ?_
  refine gk_iload_n (pc := 1) C.1 1 dX6_range_1 rfl rfl ?_
  refine tk_callV (pc := 2) (y := yX6_partAt) (n := 1) (As := [.int x1]) (rest := []) C (wk_partAt (ev_l X) hG hw) q2429 q2431 qs94 q2432 ⟨rfl, by decide +kernel⟩ ⟨by decide, by decide⟩ rfl rfl (Nat.le_of_ble_eq_true rfl) dX6_range_2 (fun v9 u_1 hp => ?_)
  obtain ⟨r_2, rfl, hw⟩ := hp
  refine GK.at (p2 := 5) rfl ?_
  refine gk_istore_n (pc := 5) (lv' := [(3, Value.int r_2), (0, Value.ref G.2.2.1), (1, Value.int x1), (2, Value.int x2)]) C.1 dX6_range_5 rfl (by rw [hXn]; decide) rfl ?_
  refine gk_iload_n (pc := 6) C.1 0 dX6_range_6 rfl rfl ?_
  refine gk_if_ge (pc := 7) (tgt := 14) C.1 dX6_range_7 (by decide) (fun c_3 => ?_) (fun c_3 => ?_)
  · replace hw := hw.1 c_3
    refine gk_iload_n (pc := 14) C.1 3 dX6_range_14 rfl rfl ?_
    refine gk_iconst (pc := 15) (v := 0) C.1 dX6_range_15 (by decide) ?_
    refine gk_iconst (pc := 16) (v := 1) C.1 dX6_range_16 (by decide) ?_
    refine tk_callS (pc := 17) (y := yX6_isIn) (n := 3) (As := [.int x2, .int 0, .int 1]) (rest := []) C (wk_isIn (ev_l X) hG hw) q2323 q2324 q2325 ⟨rfl, by decide +kernel⟩ ⟨by decide, by decide⟩ rfl rfl (Nat.le_of_ble_eq_true rfl) dX6_range_17 (fun v9 u_4 hp => ?_)
    obtain ⟨r_5, rfl, hw⟩ := hp
    refine GK.at (p2 := 20) rfl ?_
    refine gk_if_ne (pc := 20) (tgt := 28) C.1 dX6_range_20 (by decide) (fun c_6 => ?_) (fun c_6 => ?_)
    · replace hw := hw.1 c_6
      refine gk_iconst (pc := 28) (v := 0) C.1 dX6_range_28 (by decide) ?_
      refine GK.sub (lv' := [(0, .ref G.2.2.1), (1, .int x1), (2, .int x2), (3, .int r_2)]) [1, 2, 3, 0] rfl ?_
      exact kt_range_29 C hG hret hXn  _ _ _ _ _ hw
    · replace hw := hw.2 c_6
      refine gk_bipush (pc := 23) (v := (-2)) C.1 dX6_range_23 (by decide) ?_
      refine gk_goto (pc := 25) (tgt := 29) C.1 dX6_range_25 (by decide) ?_
      refine GK.sub (lv' := [(0, .ref G.2.2.1), (1, .int x1), (2, .int x2), (3, .int r_2)]) [1, 2, 3, 0] rfl ?_
      exact kt_range_29 C hG hret hXn  _ _ _ _ _ hw
  · replace hw := hw.2 c_3
    refine gk_iconst (pc := 10) (v := (-1)) C.1 dX6_range_10 (by decide) ?_
    refine gk_goto (pc := 11) (tgt := 29) C.1 dX6_range_11 (by decide) ?_
    refine GK.sub (lv' := [(0, .ref G.2.2.1), (1, .int x1), (2, .int x2), (3, .int r_2)]) [1, 2, 3, 0] rfl ?_
    exact kt_range_29 C hG hret hXn  _ _ _ _ _ hw
/-! readsNumber()Z -/
def wt_readsNumber (k : Int32 → TS → Prop) (u : TS) : Prop := wt_beginsPart (fun r_2 u_1 => wt_digit (fun r_4 u_3 => vp_in r_2 21 ∧ (∀ u_5 : TS, u_5 = tpA u_3 2 r_2.toNatClampNeg r_4 → (wt_digit (fun r_7 u_6 => ((r_7 < 0 → (k 1 u_6)) ∧ (¬ r_7 < 0 → (vp_in r_2 21 ∧ (vp_in r_2 21 ∧ (∀ u_9 : TS, u_9 = tpA u_6 2 r_2.toNatClampNeg ((10 * (u_6.1 2 r_2.toNatClampNeg)) + r_7) → (k 1 u_9))))))) u_5))) u_1) 0 0 u
theorem wk_readsNumber (l : Launch) {G : TG} (hG : TD G) {k : Int32 → TS → Prop} {u : TS} (hw : wt_readsNumber k  u) : TMet l yX6_readsNumber cX6_readsNumber 3 (some .boolean) 3 G [.ref G.2.2.1] u (tI k) := by
  refine tk_met hG rfl (Nat.le_of_ble_eq_true rfl) (fun X hXl hXn hret C => ?_)
  subst hXl
  unfold wt_readsNumber at hw
  refine GK.sub (lv' := [(0, .ref G.2.2.1)]) [0] rfl ?_
  refine gk_aload_n (pc := 0) C.1 0 dX6_readsNumber_0 rfl rfl ?_
  refine gk_iconst (pc := 1) (v := 0) C.1 dX6_readsNumber_1 (by decide) ?_
  refine gk_iconst (pc := 2) (v := 0) C.1 dX6_readsNumber_2 (by decide) ?_
  refine tk_callV (pc := 3) (y := yX6_beginsPart) (n := 2) (As := [.int 0, .int 0]) (rest := []) C (wk_beginsPart (ev_l X) hG hw) q2330 q2332 qs74 q2333 ⟨rfl, by decide +kernel⟩ ⟨by decide, by decide⟩ rfl rfl (Nat.le_of_ble_eq_true rfl) dX6_readsNumber_3 (fun v9 u_1 hp => ?_)
  obtain ⟨r_2, rfl, hw⟩ := hp
  refine GK.at (p2 := 6) rfl ?_
  refine gk_istore_n (pc := 6) (lv' := [(1, Value.int r_2), (0, Value.ref G.2.2.1)]) C.1 dX6_readsNumber_6 rfl (by rw [hXn]; decide) rfl ?_
  refine gk_aload_n (pc := 7) C.1 1 dX6_readsNumber_7 rfl rfl ?_
  refine tk_getA (pc := 8) C (k := 2) (by decide) (by decide) q2123 rfl dX6_readsNumber_8 ?_
  refine gk_iload_n (pc := 11) C.1 0 dX6_readsNumber_11 rfl rfl ?_
  refine gk_aload_n (pc := 12) C.1 1 dX6_readsNumber_12 rfl rfl ?_
  refine tk_callV (pc := 13) (y := yX6_digit) (n := 0) (As := []) (rest := [.int r_2, .ref (G.2.2.2 2)]) C (wk_digit (ev_l X) hG hw) q2338 q2340 qs76 q2341 ⟨rfl, by decide +kernel⟩ ⟨by decide, by decide⟩ rfl rfl (Nat.le_of_ble_eq_true rfl) dX6_readsNumber_13 (fun v9 u_3 hp => ?_)
  obtain ⟨r_4, rfl, hw⟩ := hp
  refine GK.at (p2 := 16) rfl ?_
  obtain ⟨hi, hw⟩ := hw
  refine tk_ast (pc := 16) C (k := 2) (by decide) hi dX6_readsNumber_16 (fun u_5 eu_5 => ?_)
  replace hw := hw u_5 eu_5
  refine gk_aload_n (pc := 17) C.1 1 dX6_readsNumber_17 rfl rfl ?_
  refine tk_callV (pc := 18) (y := yX6_digit) (n := 0) (As := []) (rest := []) C (wk_digit (ev_l X) hG hw) q2338 q2340 qs76 q2341 ⟨rfl, by decide +kernel⟩ ⟨by decide, by decide⟩ rfl rfl (Nat.le_of_ble_eq_true rfl) dX6_readsNumber_18 (fun v9 u_6 hp => ?_)
  obtain ⟨r_7, rfl, hw⟩ := hp
  refine GK.at (p2 := 21) rfl ?_
  refine gk_istore_n (pc := 21) (lv' := [(2, Value.int r_7), (1, Value.int r_2), (0, Value.ref G.2.2.1)]) C.1 dX6_readsNumber_21 rfl (by rw [hXn]; decide) rfl ?_
  refine gk_iload_n (pc := 22) C.1 0 dX6_readsNumber_22 rfl rfl ?_
  refine gk_if_lt (pc := 23) (tgt := 43) C.1 dX6_readsNumber_23 (by decide) (fun c_8 => ?_) (fun c_8 => ?_)
  · replace hw := hw.1 c_8
    refine gk_iconst (pc := 43) (v := 1) C.1 dX6_readsNumber_43 (by decide) ?_
    exact tk_zret (pc := 44) C hret dX6_readsNumber_44 bz1 hw
  · replace hw := hw.2 c_8
    refine gk_aload_n (pc := 26) C.1 2 dX6_readsNumber_26 rfl rfl ?_
    refine tk_getA (pc := 27) C (k := 2) (by decide) (by decide) q2123 rfl dX6_readsNumber_27 ?_
    refine gk_iload_n (pc := 30) C.1 1 dX6_readsNumber_30 rfl rfl ?_
    refine gk_bipush (pc := 31) (v := 10) C.1 dX6_readsNumber_31 (by decide) ?_
    refine gk_aload_n (pc := 33) C.1 2 dX6_readsNumber_33 rfl rfl ?_
    refine tk_getA (pc := 34) C (k := 2) (by decide) (by decide) q2123 rfl dX6_readsNumber_34 ?_
    refine gk_iload_n (pc := 37) C.1 1 dX6_readsNumber_37 rfl rfl ?_
    obtain ⟨hi, hw⟩ := hw
    refine tk_ald (pc := 38) C (k := 2) (by decide) hi dX6_readsNumber_38 ?_
    refine gk_imul (pc := 39) C.1 dX6_readsNumber_39 ?_
    refine gk_iload_n (pc := 40) C.1 0 dX6_readsNumber_40 rfl rfl ?_
    refine gk_iadd (pc := 41) C.1 dX6_readsNumber_41 ?_
    obtain ⟨hi, hw⟩ := hw
    refine tk_ast (pc := 42) C (k := 2) (by decide) hi dX6_readsNumber_42 (fun u_9 eu_9 => ?_)
    replace hw := hw u_9 eu_9
    refine gk_iconst (pc := 43) (v := 1) C.1 dX6_readsNumber_43 (by decide) ?_
    exact tk_zret (pc := 44) C hret dX6_readsNumber_44 bz1 hw
/-! readsPart()Z -/
def wt_readsPart_78 (k : Int32 → TS → Prop)  (u : TS) : Prop := ∀ u_1 : TS, u_1 = tpI u 43 ((u.2 43) + 1) → (k 1 u_1)
theorem kt_readsPart_78 {X : Ev} {G : TG} {k : Int32 → TS → Prop} (C : TC X G cX6_readsPart 4) (hG : TD G) (hret : (ev_h X).sig.returnType = some .boolean) (hXn : ev_n X = 3) : ∀  (u : TS), wt_readsPart_78 k  u → GK X (TP G u) 0 0 (tQ X G (tI k)) 78 [(0, .ref G.2.2.1)] [] := by
  intro  u hw
  unfold wt_readsPart_78 at hw
  refine gk_aload_n (pc := 78) C.1 0 dX6_readsPart_78 rfl rfl ?_
  refine gk_dup (pc := 79) C.1 dX6_readsPart_79 rfl ?_
  refine tk_getI (pc := 80) C (k := 43) (by decide) (by decide) q2164 rfl dX6_readsPart_80 ?_
  refine gk_iconst (pc := 83) (v := 1) C.1 dX6_readsPart_83 (by decide) ?_
  refine gk_iadd (pc := 84) C.1 dX6_readsPart_84 ?_
  refine tk_putI (pc := 85) C (k := 43) (by decide) (by decide) q2164 rfl rfl (ty := .int) rfl rfl rfl dX6_readsPart_85 (fun u_1 eu_1 => ?_)
  replace hw := hw u_1 eu_1
  refine gk_iconst (pc := 88) (v := 1) C.1 dX6_readsPart_88 (by decide) ?_
  exact tk_zret (pc := 89) C hret dX6_readsPart_89 bz1 hw
def wt_readsPart_60 (k : Int32 → TS → Prop) (s0 : Int32) (u : TS) : Prop := wt_beginsPart (fun r_2 u_1 => wt_opens (fun u_3 => wt_readsPart_78 k u_3) r_2 s0 0 u_1) s0 0 u
theorem kt_readsPart_60 {X : Ev} {G : TG} {k : Int32 → TS → Prop} (C : TC X G cX6_readsPart 4) (hG : TD G) (hret : (ev_h X).sig.returnType = some .boolean) (hXn : ev_n X = 3) : ∀ (s0 : Int32) (u : TS), wt_readsPart_60 k s0 u → GK X (TP G u) 0 0 (tQ X G (tI k)) 60 [(0, .ref G.2.2.1)] [.int s0] := by
  intro s0 u hw
  unfold wt_readsPart_60 at hw
  refine gk_istore_n (pc := 60) (lv' := [(2, Value.int s0), (0, Value.ref G.2.2.1)]) C.1 dX6_readsPart_60 rfl (by rw [hXn]; decide) rfl ?_
  refine gk_aload_n (pc := 61) C.1 1 dX6_readsPart_61 rfl rfl ?_
  refine gk_aload_n (pc := 62) C.1 1 dX6_readsPart_62 rfl rfl ?_
  refine gk_iload_n (pc := 63) C.1 0 dX6_readsPart_63 rfl rfl ?_
  refine gk_iconst (pc := 64) (v := 0) C.1 dX6_readsPart_64 (by decide) ?_
  refine tk_callV (pc := 65) (y := yX6_beginsPart) (n := 2) (As := [.int s0, .int 0]) (rest := [.ref G.2.2.1]) C (wk_beginsPart (ev_l X) hG hw) q2330 q2332 qs74 q2333 ⟨rfl, by decide +kernel⟩ ⟨by decide, by decide⟩ rfl rfl (Nat.le_of_ble_eq_true rfl) dX6_readsPart_65 (fun v9 u_1 hp => ?_)
  obtain ⟨r_2, rfl, hw⟩ := hp
  refine GK.at (p2 := 68) rfl ?_
  refine gk_iload_n (pc := 68) C.1 0 dX6_readsPart_68 rfl rfl ?_
  refine gk_iconst (pc := 69) (v := 0) C.1 dX6_readsPart_69 (by decide) ?_
  refine tk_callV (pc := 70) (y := yX6_opens) (n := 3) (As := [.int r_2, .int s0, .int 0]) (rest := []) C (wk_opens (ev_l X) hG hw) q2342 q2344 qs77 q2345 ⟨rfl, by decide +kernel⟩ ⟨by decide, by decide⟩ rfl rfl (Nat.le_of_ble_eq_true rfl) dX6_readsPart_70 (fun v9 u_3 hp => ?_)
  obtain ⟨rfl, hw⟩ := hp
  refine GK.at (p2 := 73) rfl ?_
  refine gk_goto (pc := 73) (tgt := 78) C.1 dX6_readsPart_73 (by decide) ?_
  refine GK.sub (lv' := [(0, .ref G.2.2.1)]) [1] rfl ?_
  exact kt_readsPart_78 C hG hret hXn   _ hw
def wt_readsPart_49 (k : Int32 → TS → Prop) (x1 : Int32) (u : TS) : Prop := ((¬ x1 = 40 → (wt_readsPart_60 k 3 u)) ∧ (x1 = 40 → (wt_readsPart_60 k 2 u)))
theorem kt_readsPart_49 {X : Ev} {G : TG} {k : Int32 → TS → Prop} (C : TC X G cX6_readsPart 4) (hG : TD G) (hret : (ev_h X).sig.returnType = some .boolean) (hXn : ev_n X = 3) : ∀ (x1 : Int32) (u : TS), wt_readsPart_49 k x1 u → GK X (TP G u) 0 0 (tQ X G (tI k)) 49 [(0, .ref G.2.2.1), (1, .int x1)] [] := by
  intro x1 u hw
  unfold wt_readsPart_49 at hw
  refine gk_iload_n (pc := 49) C.1 1 dX6_readsPart_49 rfl rfl ?_
  refine gk_bipush (pc := 50) (v := 40) C.1 dX6_readsPart_50 (by decide) ?_
  refine gk_icmp_ne (pc := 52) (tgt := 59) C.1 dX6_readsPart_52 (by decide) (fun c_1 => ?_) (fun c_1 => ?_)
  · replace hw := hw.1 c_1
    refine gk_iconst (pc := 59) (v := 3) C.1 dX6_readsPart_59 (by decide) ?_
    refine GK.sub (lv' := [(0, .ref G.2.2.1)]) [0] rfl ?_
    exact kt_readsPart_60 C hG hret hXn  _ _ hw
  · replace hw := hw.2 c_1
    refine gk_iconst (pc := 55) (v := 2) C.1 dX6_readsPart_55 (by decide) ?_
    refine gk_goto (pc := 56) (tgt := 60) C.1 dX6_readsPart_56 (by decide) ?_
    refine GK.sub (lv' := [(0, .ref G.2.2.1)]) [0] rfl ?_
    exact kt_readsPart_60 C hG hret hXn  _ _ hw
def wt_readsPart (k : Int32 → TS → Prop) (u : TS) : Prop := wt_sign (fun r_2 u_1 => wt_isIn (fun r_4 u_3 => ((r_4 = 0 → (((¬ r_2 = 63 → (((r_2 = 40 → (wt_readsPart_49 k r_2 u_3)) ∧ (¬ r_2 = 40 → (((¬ r_2 = 91 → (k 0 u_3)) ∧ (r_2 = 91 → (wt_readsPart_49 k r_2 u_3)))))))) ∧ (r_2 = 63 → (wt_beginsPart (fun r_10 u_9 => wt_readsPart_78 k u_9) 1 0 u_3))))) ∧ (¬ r_4 = 0 → (wt_readsNumber (fun r_12 u_11 => bz r_12 ∧ k r_12 u_11) u_3)))) r_2 48 57 u_1) u
theorem wk_readsPart (l : Launch) {G : TG} (hG : TD G) {k : Int32 → TS → Prop} {u : TS} (hw : wt_readsPart k  u) : TMet l yX6_readsPart cX6_readsPart 3 (some .boolean) 4 G [.ref G.2.2.1] u (tI k) := by
  refine tk_met hG rfl (Nat.le_of_ble_eq_true rfl) (fun X hXl hXn hret C => ?_)
  subst hXl
  unfold wt_readsPart at hw
  refine GK.sub (lv' := [(0, .ref G.2.2.1)]) [0] rfl ?_
  refine gk_aload_n (pc := 0) C.1 0 dX6_readsPart_0 rfl rfl ?_
  refine tk_callV (pc := 1) (y := yX6_sign) (n := 0) (As := []) (rest := []) C (wk_sign (ev_l X) hG hw) q2319 q2321 qs72 q2322 ⟨rfl, by decide +kernel⟩ ⟨by decide, by decide⟩ rfl rfl (Nat.le_of_ble_eq_true rfl) dX6_readsPart_1 (fun v9 u_1 hp => ?_)
  obtain ⟨r_2, rfl, hw⟩ := hp
  refine GK.at (p2 := 4) rfl ?_
  refine gk_istore_n (pc := 4) (lv' := [(1, Value.int r_2), (0, Value.ref G.2.2.1)]) C.1 dX6_readsPart_4 rfl (by rw [hXn]; decide) rfl ?_
  refine gk_iload_n (pc := 5) C.1 0 dX6_readsPart_5 rfl rfl ?_
  refine gk_bipush (pc := 6) (v := 48) C.1 dX6_readsPart_6 (by decide) ?_
  refine gk_bipush (pc := 8) (v := 57) C.1 dX6_readsPart_8 (by decide) ?_
  refine tk_callS (pc := 10) (y := yX6_isIn) (n := 3) (As := [.int r_2, .int 48, .int 57]) (rest := []) C (wk_isIn (ev_l X) hG hw) q2323 q2324 q2325 ⟨rfl, by decide +kernel⟩ ⟨by decide, by decide⟩ rfl rfl (Nat.le_of_ble_eq_true rfl) dX6_readsPart_10 (fun v9 u_3 hp => ?_)
  obtain ⟨r_4, rfl, hw⟩ := hp
  refine GK.at (p2 := 13) rfl ?_
  refine gk_if_eq (pc := 13) (tgt := 21) C.1 dX6_readsPart_13 (by decide) (fun c_5 => ?_) (fun c_5 => ?_)
  · replace hw := hw.1 c_5
    refine gk_iload_n (pc := 21) C.1 0 dX6_readsPart_21 rfl rfl ?_
    refine gk_bipush (pc := 22) (v := 63) C.1 dX6_readsPart_22 (by decide) ?_
    refine gk_icmp_ne (pc := 24) (tgt := 37) C.1 dX6_readsPart_24 (by decide) (fun c_6 => ?_) (fun c_6 => ?_)
    · replace hw := hw.1 c_6
      refine gk_iload_n (pc := 37) C.1 0 dX6_readsPart_37 rfl rfl ?_
      refine gk_bipush (pc := 38) (v := 40) C.1 dX6_readsPart_38 (by decide) ?_
      refine gk_icmp_eq (pc := 40) (tgt := 49) C.1 dX6_readsPart_40 (by decide) (fun c_7 => ?_) (fun c_7 => ?_)
      · replace hw := hw.1 c_7
        refine GK.sub (lv' := [(0, .ref G.2.2.1), (1, .int r_2)]) [1, 0] rfl ?_
        exact kt_readsPart_49 C hG hret hXn  _ _ hw
      · replace hw := hw.2 c_7
        refine gk_iload_n (pc := 43) C.1 0 dX6_readsPart_43 rfl rfl ?_
        refine gk_bipush (pc := 44) (v := 91) C.1 dX6_readsPart_44 (by decide) ?_
        refine gk_icmp_ne (pc := 46) (tgt := 76) C.1 dX6_readsPart_46 (by decide) (fun c_8 => ?_) (fun c_8 => ?_)
        · replace hw := hw.1 c_8
          refine gk_iconst (pc := 76) (v := 0) C.1 dX6_readsPart_76 (by decide) ?_
          exact tk_zret (pc := 77) C hret dX6_readsPart_77 bz0 hw
        · replace hw := hw.2 c_8
          refine GK.sub (lv' := [(0, .ref G.2.2.1), (1, .int r_2)]) [1, 0] rfl ?_
          exact kt_readsPart_49 C hG hret hXn  _ _ hw
    · replace hw := hw.2 c_6
      refine gk_aload_n (pc := 27) C.1 1 dX6_readsPart_27 rfl rfl ?_
      refine gk_iconst (pc := 28) (v := 1) C.1 dX6_readsPart_28 (by decide) ?_
      refine gk_iconst (pc := 29) (v := 0) C.1 dX6_readsPart_29 (by decide) ?_
      refine tk_callV (pc := 30) (y := yX6_beginsPart) (n := 2) (As := [.int 1, .int 0]) (rest := []) C (wk_beginsPart (ev_l X) hG hw) q2330 q2332 qs74 q2333 ⟨rfl, by decide +kernel⟩ ⟨by decide, by decide⟩ rfl rfl (Nat.le_of_ble_eq_true rfl) dX6_readsPart_30 (fun v9 u_9 hp => ?_)
      obtain ⟨r_10, rfl, hw⟩ := hp
      refine GK.at (p2 := 33) rfl ?_
      refine gk_pop (pc := 33) C.1 dX6_readsPart_33 rfl ?_
      refine gk_goto (pc := 34) (tgt := 78) C.1 dX6_readsPart_34 (by decide) ?_
      refine GK.sub (lv' := [(0, .ref G.2.2.1)]) [1] rfl ?_
      exact kt_readsPart_78 C hG hret hXn   _ hw
  · replace hw := hw.2 c_5
    refine gk_aload_n (pc := 16) C.1 1 dX6_readsPart_16 rfl rfl ?_
    refine tk_callV (pc := 17) (y := yX6_readsNumber) (n := 0) (As := []) (rest := []) C (wk_readsNumber (ev_l X) hG hw) q2326 q2328 qs73 q2329 ⟨rfl, by decide +kernel⟩ ⟨by decide, by decide⟩ rfl rfl (Nat.le_of_ble_eq_true rfl) dX6_readsPart_17 (fun v9 u_11 hp => ?_)
    obtain ⟨r_12, rfl, hw⟩ := hp
    refine GK.at (p2 := 20) rfl ?_
    obtain ⟨hz, hw⟩ := hw
    exact tk_zret (pc := 20) C hret dX6_readsPart_20 hz hw
/-! readsField()Z -/
def wt_readsField_48 (k : Int32 → TS → Prop)  (u : TS) : Prop := vp_in ((u.2 45) - 1) 100 ∧ (vp_in ((u.2 45) - 1) 100 ∧ (∀ u_1 : TS, u_1 = tpA u 39 ((u.2 45) - 1).toNatClampNeg ((u.1 39 ((u.2 45) - 1).toNatClampNeg) ||| (1 <<< ((u.2 46) &&& 31))) → (wt_readsPart (fun r_3 u_2 => bz r_3 ∧ k r_3 u_2) u_1)))
theorem kt_readsField_48 {X : Ev} {G : TG} {k : Int32 → TS → Prop} (C : TC X G cX6_readsField 5) (hG : TD G) (hret : (ev_h X).sig.returnType = some .boolean) (hXn : ev_n X = 2) : ∀  (u : TS), wt_readsField_48 k  u → GK X (TP G u) 0 0 (tQ X G (tI k)) 48 [(0, .ref G.2.2.1)] [] := by
  intro  u hw
  unfold wt_readsField_48 at hw
  refine gk_aload_n (pc := 48) C.1 0 dX6_readsField_48 rfl rfl ?_
  refine tk_getA (pc := 49) C (k := 39) (by decide) (by decide) q2160 rfl dX6_readsField_49 ?_
  refine gk_aload_n (pc := 52) C.1 0 dX6_readsField_52 rfl rfl ?_
  refine tk_getI (pc := 53) C (k := 45) (by decide) (by decide) q2166 rfl dX6_readsField_53 ?_
  refine gk_iconst (pc := 56) (v := 1) C.1 dX6_readsField_56 (by decide) ?_
  refine gk_isub (pc := 57) C.1 dX6_readsField_57 ?_
  refine gk_dup2 (pc := 58) C.1 dX6_readsField_58 rfl rfl ?_
  obtain ⟨hi, hw⟩ := hw
  refine tk_ald (pc := 59) C (k := 39) (by decide) hi dX6_readsField_59 ?_
  refine gk_iconst (pc := 60) (v := 1) C.1 dX6_readsField_60 (by decide) ?_
  refine gk_aload_n (pc := 61) C.1 0 dX6_readsField_61 rfl rfl ?_
  refine tk_getI (pc := 62) C (k := 46) (by decide) (by decide) q2167 rfl dX6_readsField_62 ?_
  refine gk_ishl (pc := 65) C.1 dX6_readsField_65 ?_
  refine gk_ior (pc := 66) C.1 dX6_readsField_66 ?_
  obtain ⟨hi, hw⟩ := hw
  refine tk_ast (pc := 67) C (k := 39) (by decide) hi dX6_readsField_67 (fun u_1 eu_1 => ?_)
  replace hw := hw u_1 eu_1
  refine gk_aload_n (pc := 68) C.1 0 dX6_readsField_68 rfl rfl ?_
  refine tk_callV (pc := 69) (y := yX6_readsPart) (n := 0) (As := []) (rest := []) C (wk_readsPart (ev_l X) hG hw) q2315 q2317 qs71 q2318 ⟨rfl, by decide +kernel⟩ ⟨by decide, by decide⟩ rfl rfl (Nat.le_of_ble_eq_true rfl) dX6_readsField_69 (fun v9 u_2 hp => ?_)
  obtain ⟨r_3, rfl, hw⟩ := hp
  refine GK.at (p2 := 72) rfl ?_
  obtain ⟨hz, hw⟩ := hw
  exact tk_zret (pc := 72) C hret dX6_readsField_72 hz hw
def wt_readsField (k : Int32 → TS → Prop) (u : TS) : Prop := ∀ x_1 : Int32, x_1 = u.2 43 → (wt_nameNow (fun r_3 u_2 => ∀ u_4 : TS, u_4 = tpI u_2 46 r_3 → (((0 ≤ (u_4.2 46) → (vp_in ((u_4.2 45) - 1) 100 ∧ (wt_has (fun r_7 u_6 => ((r_7 = 0 → (wt_readsField_48 k u_6)) ∧ (¬ r_7 = 0 → (wt_isBad (fun u_9 => wt_readsField_48 k u_9) x_1 u_6)))) (u_4.1 39 ((u_4.2 45) - 1).toNatClampNeg) (u_4.2 46) u_4))) ∧ (¬ 0 ≤ (u_4.2 46) → (k 0 u_4))))) u)
theorem wk_readsField (l : Launch) {G : TG} (hG : TD G) {k : Int32 → TS → Prop} {u : TS} (hw : wt_readsField k  u) : TMet l yX6_readsField cX6_readsField 2 (some .boolean) 5 G [.ref G.2.2.1] u (tI k) := by
  refine tk_met hG rfl (Nat.le_of_ble_eq_true rfl) (fun X hXl hXn hret C => ?_)
  subst hXl
  unfold wt_readsField at hw
  refine GK.sub (lv' := [(0, .ref G.2.2.1)]) [0] rfl ?_
  refine gk_aload_n (pc := 0) C.1 0 dX6_readsField_0 rfl rfl ?_
  refine tk_getI (pc := 1) C (k := 43) (by decide) (by decide) q2164 rfl dX6_readsField_1 ?_
  obtain ⟨x_1, ex_1⟩ : ∃ z : Int32, z = u.2 43 := ⟨_, rfl⟩
  rw [← ex_1]
  replace hw := hw x_1 ex_1
  refine gk_istore_n (pc := 4) (lv' := [(1, Value.int x_1), (0, Value.ref G.2.2.1)]) C.1 dX6_readsField_4 rfl (by rw [hXn]; decide) rfl ?_
  refine gk_aload_n (pc := 5) C.1 1 dX6_readsField_5 rfl rfl ?_
  refine gk_aload_n (pc := 6) C.1 1 dX6_readsField_6 rfl rfl ?_
  refine tk_callV (pc := 7) (y := yX6_nameNow) (n := 0) (As := []) (rest := [.ref G.2.2.1]) C (wk_nameNow (ev_l X) hG hw) q2362 q2364 qs82 q2365 ⟨rfl, by decide +kernel⟩ ⟨by decide, by decide⟩ rfl rfl (Nat.le_of_ble_eq_true rfl) dX6_readsField_7 (fun v9 u_2 hp => ?_)
  obtain ⟨r_3, rfl, hw⟩ := hp
  refine GK.at (p2 := 10) rfl ?_
  refine tk_putI (pc := 10) C (k := 46) (by decide) (by decide) q2167 rfl rfl (ty := .int) rfl rfl rfl dX6_readsField_10 (fun u_4 eu_4 => ?_)
  replace hw := hw u_4 eu_4
  refine gk_aload_n (pc := 13) C.1 1 dX6_readsField_13 rfl rfl ?_
  refine tk_getI (pc := 14) C (k := 46) (by decide) (by decide) q2167 rfl dX6_readsField_14 ?_
  refine gk_if_ge (pc := 17) (tgt := 22) C.1 dX6_readsField_17 (by decide) (fun c_5 => ?_) (fun c_5 => ?_)
  · replace hw := hw.1 c_5
    refine gk_aload_n (pc := 22) C.1 1 dX6_readsField_22 rfl rfl ?_
    refine tk_getA (pc := 23) C (k := 39) (by decide) (by decide) q2160 rfl dX6_readsField_23 ?_
    refine gk_aload_n (pc := 26) C.1 1 dX6_readsField_26 rfl rfl ?_
    refine tk_getI (pc := 27) C (k := 45) (by decide) (by decide) q2166 rfl dX6_readsField_27 ?_
    refine gk_iconst (pc := 30) (v := 1) C.1 dX6_readsField_30 (by decide) ?_
    refine gk_isub (pc := 31) C.1 dX6_readsField_31 ?_
    obtain ⟨hi, hw⟩ := hw
    refine tk_ald (pc := 32) C (k := 39) (by decide) hi dX6_readsField_32 ?_
    refine gk_aload_n (pc := 33) C.1 1 dX6_readsField_33 rfl rfl ?_
    refine tk_getI (pc := 34) C (k := 46) (by decide) (by decide) q2167 rfl dX6_readsField_34 ?_
    refine tk_callS (pc := 37) (y := yX6_has) (n := 2) (As := [.int (u_4.1 39 ((u_4.2 45) - 1).toNatClampNeg), .int (u_4.2 46)]) (rest := []) C (wk_has (ev_l X) hG hw) q2366 q2367 q2368 ⟨rfl, by decide +kernel⟩ ⟨by decide, by decide⟩ rfl rfl (Nat.le_of_ble_eq_true rfl) dX6_readsField_37 (fun v9 u_6 hp => ?_)
    obtain ⟨r_7, rfl, hw⟩ := hp
    refine GK.at (p2 := 40) rfl ?_
    refine gk_if_eq (pc := 40) (tgt := 48) C.1 dX6_readsField_40 (by decide) (fun c_8 => ?_) (fun c_8 => ?_)
    · replace hw := hw.1 c_8
      refine GK.sub (lv' := [(0, .ref G.2.2.1)]) [1] rfl ?_
      exact kt_readsField_48 C hG hret hXn   _ hw
    · replace hw := hw.2 c_8
      refine gk_aload_n (pc := 43) C.1 1 dX6_readsField_43 rfl rfl ?_
      refine gk_iload_n (pc := 44) C.1 0 dX6_readsField_44 rfl rfl ?_
      refine tk_callV (pc := 45) (y := yX6_isBad) (n := 1) (As := [.int x_1]) (rest := []) C (wk_isBad (ev_l X) hG hw) q2334 q2336 qs75 q2337 ⟨rfl, by decide +kernel⟩ ⟨by decide, by decide⟩ rfl rfl (Nat.le_of_ble_eq_true rfl) dX6_readsField_45 (fun v9 u_9 hp => ?_)
      obtain ⟨rfl, hw⟩ := hp
      refine GK.at (p2 := 48) rfl ?_
      refine GK.sub (lv' := [(0, .ref G.2.2.1)]) [1] rfl ?_
      exact kt_readsField_48 C hG hret hXn   _ hw
  · replace hw := hw.2 c_5
    refine gk_iconst (pc := 20) (v := 0) C.1 dX6_readsField_20 (by decide) ?_
    exact tk_zret (pc := 21) C hret dX6_readsField_21 bz0 hw
/-! readsInside()Z -/
def wt_readsInside_36 (k : Int32 → TS → Prop)  (u : TS) : Prop := k 1 u
theorem kt_readsInside_36 {X : Ev} {G : TG} {k : Int32 → TS → Prop} (C : TC X G cX6_readsInside 6) (hG : TD G) (hret : (ev_h X).sig.returnType = some .boolean) (hXn : ev_n X = 1) : ∀  (u : TS), wt_readsInside_36 k  u → GK X (TP G u) 0 0 (tQ X G (tI k)) 36 [] [] := by
  intro  u hw
  unfold wt_readsInside_36 at hw
  refine gk_iconst (pc := 36) (v := 1) C.1 dX6_readsInside_36 (by decide) ?_
  refine gk_goto (pc := 37) (tgt := 41) C.1 dX6_readsInside_37 (by decide) ?_
  exact tk_zret (pc := 41) C hret dX6_readsInside_41 bz1 hw
def wt_readsInside_76 (k : Int32 → TS → Prop)  (u : TS) : Prop := wt_readsPart (fun r_2 u_1 => ((r_2 = 0 → (k 0 u_1)) ∧ (¬ r_2 = 0 → (k 1 u_1)))) u
theorem kt_readsInside_76 {X : Ev} {G : TG} {k : Int32 → TS → Prop} (C : TC X G cX6_readsInside 6) (hG : TD G) (hret : (ev_h X).sig.returnType = some .boolean) (hXn : ev_n X = 1) : ∀  (u : TS), wt_readsInside_76 k  u → GK X (TP G u) 0 0 (tQ X G (tI k)) 76 [(0, .ref G.2.2.1)] [] := by
  intro  u hw
  unfold wt_readsInside_76 at hw
  refine gk_aload_n (pc := 76) C.1 0 dX6_readsInside_76 rfl rfl ?_
  refine tk_callV (pc := 77) (y := yX6_readsPart) (n := 0) (As := []) (rest := []) C (wk_readsPart (ev_l X) hG hw) q2315 q2317 qs71 q2318 ⟨rfl, by decide +kernel⟩ ⟨by decide, by decide⟩ rfl rfl (Nat.le_of_ble_eq_true rfl) dX6_readsInside_77 (fun v9 u_1 hp => ?_)
  obtain ⟨r_2, rfl, hw⟩ := hp
  refine GK.at (p2 := 80) rfl ?_
  refine gk_if_eq (pc := 80) (tgt := 87) C.1 dX6_readsInside_80 (by decide) (fun c_3 => ?_) (fun c_3 => ?_)
  · replace hw := hw.1 c_3
    refine gk_iconst (pc := 87) (v := 0) C.1 dX6_readsInside_87 (by decide) ?_
    exact tk_zret (pc := 88) C hret dX6_readsInside_88 bz0 hw
  · replace hw := hw.2 c_3
    refine gk_iconst (pc := 83) (v := 1) C.1 dX6_readsInside_83 (by decide) ?_
    refine gk_goto (pc := 84) (tgt := 88) C.1 dX6_readsInside_84 (by decide) ?_
    exact tk_zret (pc := 88) C hret dX6_readsInside_88 bz1 hw
def wt_readsInside (k : Int32 → TS → Prop) (u : TS) : Prop := ∀ u_1 : TS, u_1 = tpI u 46 0 → (vp_in ((u_1.2 45) - 1) 100 ∧ (((¬ (u_1.1 38 ((u_1.2 45) - 1).toNatClampNeg) = 2 → (wt_closes (fun r_4 u_3 => ((r_4 = 0 → (vp_in ((u_3.2 45) - 1) 100 ∧ ((((u_3.1 40 ((u_3.2 45) - 1).toNatClampNeg) = 0 → (wt_readsInside_76 k u_3)) ∧ (¬ (u_3.1 40 ((u_3.2 45) - 1).toNatClampNeg) = 0 → (wt_reads (fun r_8 u_7 => ((r_8 = 0 → (k 0 u_7)) ∧ (¬ r_8 = 0 → (wt_readsInside_76 k u_7)))) 44 u_3)))))) ∧ (¬ r_4 = 0 → (k 1 u_3)))) 93 u_1)) ∧ ((u_1.1 38 ((u_1.2 45) - 1).toNatClampNeg) = 2 → (wt_closes (fun r_11 u_10 => ((¬ r_11 = 0 → (wt_readsInside_36 k u_10)) ∧ (r_11 = 0 → (wt_readsField (fun r_14 u_13 => ((r_14 = 0 → (k 0 u_13)) ∧ (¬ r_14 = 0 → (wt_readsInside_36 k u_13)))) u_10)))) 41 u_1)))))
theorem wk_readsInside (l : Launch) {G : TG} (hG : TD G) {k : Int32 → TS → Prop} {u : TS} (hw : wt_readsInside k  u) : TMet l yX6_readsInside cX6_readsInside 1 (some .boolean) 6 G [.ref G.2.2.1] u (tI k) := by
  refine tk_met hG rfl (Nat.le_of_ble_eq_true rfl) (fun X hXl hXn hret C => ?_)
  subst hXl
  unfold wt_readsInside at hw
  refine GK.sub (lv' := [(0, .ref G.2.2.1)]) [0] rfl ?_
  refine gk_aload_n (pc := 0) C.1 0 dX6_readsInside_0 rfl rfl ?_
  refine gk_iconst (pc := 1) (v := 0) C.1 dX6_readsInside_1 (by decide) ?_
  refine tk_putI (pc := 2) C (k := 46) (by decide) (by decide) q2167 rfl rfl (ty := .int) rfl rfl rfl dX6_readsInside_2 (fun u_1 eu_1 => ?_)
  replace hw := hw u_1 eu_1
  refine gk_aload_n (pc := 5) C.1 0 dX6_readsInside_5 rfl rfl ?_
  refine tk_getA (pc := 6) C (k := 38) (by decide) (by decide) q2159 rfl dX6_readsInside_6 ?_
  refine gk_aload_n (pc := 9) C.1 0 dX6_readsInside_9 rfl rfl ?_
  refine tk_getI (pc := 10) C (k := 45) (by decide) (by decide) q2166 rfl dX6_readsInside_10 ?_
  refine gk_iconst (pc := 13) (v := 1) C.1 dX6_readsInside_13 (by decide) ?_
  refine gk_isub (pc := 14) C.1 dX6_readsInside_14 ?_
  obtain ⟨hi, hw⟩ := hw
  refine tk_ald (pc := 15) C (k := 38) (by decide) hi dX6_readsInside_15 ?_
  refine gk_iconst (pc := 16) (v := 2) C.1 dX6_readsInside_16 (by decide) ?_
  refine gk_icmp_ne (pc := 17) (tgt := 42) C.1 dX6_readsInside_17 (by decide) (fun c_2 => ?_) (fun c_2 => ?_)
  · replace hw := hw.1 c_2
    refine gk_aload_n (pc := 42) C.1 0 dX6_readsInside_42 rfl rfl ?_
    refine gk_bipush (pc := 43) (v := 93) C.1 dX6_readsInside_43 (by decide) ?_
    refine tk_callV (pc := 45) (y := yX6_closes) (n := 1) (As := [.int 93]) (rest := []) C (wk_closes (ev_l X) hG hw) q2350 q2352 qs79 q2353 ⟨rfl, by decide +kernel⟩ ⟨by decide, by decide⟩ rfl rfl (Nat.le_of_ble_eq_true rfl) dX6_readsInside_45 (fun v9 u_3 hp => ?_)
    obtain ⟨r_4, rfl, hw⟩ := hp
    refine GK.at (p2 := 48) rfl ?_
    refine gk_if_eq (pc := 48) (tgt := 53) C.1 dX6_readsInside_48 (by decide) (fun c_5 => ?_) (fun c_5 => ?_)
    · replace hw := hw.1 c_5
      refine gk_aload_n (pc := 53) C.1 0 dX6_readsInside_53 rfl rfl ?_
      refine tk_getA (pc := 54) C (k := 40) (by decide) (by decide) q2161 rfl dX6_readsInside_54 ?_
      refine gk_aload_n (pc := 57) C.1 0 dX6_readsInside_57 rfl rfl ?_
      refine tk_getI (pc := 58) C (k := 45) (by decide) (by decide) q2166 rfl dX6_readsInside_58 ?_
      refine gk_iconst (pc := 61) (v := 1) C.1 dX6_readsInside_61 (by decide) ?_
      refine gk_isub (pc := 62) C.1 dX6_readsInside_62 ?_
      obtain ⟨hi, hw⟩ := hw
      refine tk_ald (pc := 63) C (k := 40) (by decide) hi dX6_readsInside_63 ?_
      refine gk_if_eq (pc := 64) (tgt := 76) C.1 dX6_readsInside_64 (by decide) (fun c_6 => ?_) (fun c_6 => ?_)
      · replace hw := hw.1 c_6
        refine GK.sub (lv' := [(0, .ref G.2.2.1)]) [0] rfl ?_
        exact kt_readsInside_76 C hG hret hXn   _ hw
      · replace hw := hw.2 c_6
        refine gk_aload_n (pc := 67) C.1 0 dX6_readsInside_67 rfl rfl ?_
        refine gk_bipush (pc := 68) (v := 44) C.1 dX6_readsInside_68 (by decide) ?_
        refine tk_callV (pc := 70) (y := yX6_reads) (n := 1) (As := [.int 44]) (rest := []) C (wk_reads (ev_l X) hG hw) q2354 q2356 qs80 q2357 ⟨rfl, by decide +kernel⟩ ⟨by decide, by decide⟩ rfl rfl (Nat.le_of_ble_eq_true rfl) dX6_readsInside_70 (fun v9 u_7 hp => ?_)
        obtain ⟨r_8, rfl, hw⟩ := hp
        refine GK.at (p2 := 73) rfl ?_
        refine gk_if_eq (pc := 73) (tgt := 87) C.1 dX6_readsInside_73 (by decide) (fun c_9 => ?_) (fun c_9 => ?_)
        · replace hw := hw.1 c_9
          refine gk_iconst (pc := 87) (v := 0) C.1 dX6_readsInside_87 (by decide) ?_
          exact tk_zret (pc := 88) C hret dX6_readsInside_88 bz0 hw
        · replace hw := hw.2 c_9
          refine GK.sub (lv' := [(0, .ref G.2.2.1)]) [0] rfl ?_
          exact kt_readsInside_76 C hG hret hXn   _ hw
    · replace hw := hw.2 c_5
      refine gk_iconst (pc := 51) (v := 1) C.1 dX6_readsInside_51 (by decide) ?_
      exact tk_zret (pc := 52) C hret dX6_readsInside_52 bz1 hw
  · replace hw := hw.2 c_2
    refine gk_aload_n (pc := 20) C.1 0 dX6_readsInside_20 rfl rfl ?_
    refine gk_bipush (pc := 21) (v := 41) C.1 dX6_readsInside_21 (by decide) ?_
    refine tk_callV (pc := 23) (y := yX6_closes) (n := 1) (As := [.int 41]) (rest := []) C (wk_closes (ev_l X) hG hw) q2350 q2352 qs79 q2353 ⟨rfl, by decide +kernel⟩ ⟨by decide, by decide⟩ rfl rfl (Nat.le_of_ble_eq_true rfl) dX6_readsInside_23 (fun v9 u_10 hp => ?_)
    obtain ⟨r_11, rfl, hw⟩ := hp
    refine GK.at (p2 := 26) rfl ?_
    refine gk_if_ne (pc := 26) (tgt := 36) C.1 dX6_readsInside_26 (by decide) (fun c_12 => ?_) (fun c_12 => ?_)
    · replace hw := hw.1 c_12
      refine GK.sub (lv' := []) [] rfl ?_
      exact kt_readsInside_36 C hG hret hXn   _ hw
    · replace hw := hw.2 c_12
      refine gk_aload_n (pc := 29) C.1 0 dX6_readsInside_29 rfl rfl ?_
      refine tk_callV (pc := 30) (y := yX6_readsField) (n := 0) (As := []) (rest := []) C (wk_readsField (ev_l X) hG hw) q2358 q2360 qs81 q2361 ⟨rfl, by decide +kernel⟩ ⟨by decide, by decide⟩ rfl rfl (Nat.le_of_ble_eq_true rfl) dX6_readsInside_30 (fun v9 u_13 hp => ?_)
      obtain ⟨r_14, rfl, hw⟩ := hp
      refine GK.at (p2 := 33) rfl ?_
      refine gk_if_eq (pc := 33) (tgt := 40) C.1 dX6_readsInside_33 (by decide) (fun c_15 => ?_) (fun c_15 => ?_)
      · replace hw := hw.1 c_15
        refine gk_iconst (pc := 40) (v := 0) C.1 dX6_readsInside_40 (by decide) ?_
        exact tk_zret (pc := 41) C hret dX6_readsInside_41 bz0 hw
      · replace hw := hw.2 c_15
        refine GK.sub (lv' := []) [] rfl ?_
        exact kt_readsInside_36 C hG hret hXn   _ hw
/-! readsValue()Z -/
def wt_readsValue_49 (k : Int32 → TS → Prop) (x1 : Int32) (u : TS) : Prop := ((x1 = 0 → (k 0 u)) ∧ (¬ x1 = 0 → (((¬ (u.2 43) = (u.2 42) → (k 0 u)) ∧ ((u.2 43) = (u.2 42) → (k 1 u))))))
theorem kt_readsValue_49 {X : Ev} {G : TG} {k : Int32 → TS → Prop} (C : TC X G cX6_readsValue 7) (hG : TD G) (hret : (ev_h X).sig.returnType = some .boolean) (hXn : ev_n X = 2) : ∀ (x1 : Int32) (u : TS), wt_readsValue_49 k x1 u → GK X (TP G u) 0 0 (tQ X G (tI k)) 49 [(0, .ref G.2.2.1), (1, .int x1)] [] := by
  intro x1 u hw
  unfold wt_readsValue_49 at hw
  refine gk_iload_n (pc := 49) C.1 1 dX6_readsValue_49 rfl rfl ?_
  refine gk_if_eq (pc := 50) (tgt := 68) C.1 dX6_readsValue_50 (by decide) (fun c_1 => ?_) (fun c_1 => ?_)
  · replace hw := hw.1 c_1
    refine gk_iconst (pc := 68) (v := 0) C.1 dX6_readsValue_68 (by decide) ?_
    exact tk_zret (pc := 69) C hret dX6_readsValue_69 bz0 hw
  · replace hw := hw.2 c_1
    refine gk_aload_n (pc := 53) C.1 0 dX6_readsValue_53 rfl rfl ?_
    refine tk_getI (pc := 54) C (k := 43) (by decide) (by decide) q2164 rfl dX6_readsValue_54 ?_
    refine gk_aload_n (pc := 57) C.1 0 dX6_readsValue_57 rfl rfl ?_
    refine tk_getI (pc := 58) C (k := 42) (by decide) (by decide) q2163 rfl dX6_readsValue_58 ?_
    refine gk_icmp_ne (pc := 61) (tgt := 68) C.1 dX6_readsValue_61 (by decide) (fun c_2 => ?_) (fun c_2 => ?_)
    · replace hw := hw.1 c_2
      refine gk_iconst (pc := 68) (v := 0) C.1 dX6_readsValue_68 (by decide) ?_
      exact tk_zret (pc := 69) C hret dX6_readsValue_69 bz0 hw
    · replace hw := hw.2 c_2
      refine gk_iconst (pc := 64) (v := 1) C.1 dX6_readsValue_64 (by decide) ?_
      refine gk_goto (pc := 65) (tgt := 69) C.1 dX6_readsValue_65 (by decide) ?_
      exact tk_zret (pc := 69) C hret dX6_readsValue_69 bz1 hw
def wt_readsValue_30 (k : Int32 → TS → Prop) : Nat → Int32 → TS → Prop
  | 0 => fun _ _ => False
  | n + 1 => fun x1 u => ((x1 = 0 → (wt_readsValue_49 k x1 u)) ∧ (¬ x1 = 0 → ((((u.2 45) ≤ 0 → (wt_readsValue_49 k x1 u)) ∧ (¬ (u.2 45) ≤ 0 → (wt_readsInside (fun r_4 u_3 => wt_readsValue_30 k n r_4 u_3) u))))))
theorem kt_readsValue_30 {X : Ev} {G : TG} {k : Int32 → TS → Prop} (C : TC X G cX6_readsValue 7) (hG : TD G) (hret : (ev_h X).sig.returnType = some .boolean) (hXn : ev_n X = 2) : ∀ (n : Nat) (x1 : Int32) (u : TS), wt_readsValue_30 k n x1 u → GK X (TP G u) 0 0 (tQ X G (tI k)) 30 [(0, .ref G.2.2.1), (1, .int x1)] [] := by
  intro n
  induction n with
  | zero => intro x1 u hw; exact hw.elim
  | succ n ih =>
  intro x1 u hw
  unfold wt_readsValue_30 at hw
  refine gk_iload_n (pc := 30) C.1 1 dX6_readsValue_30 rfl rfl ?_
  refine gk_if_eq (pc := 31) (tgt := 49) C.1 dX6_readsValue_31 (by decide) (fun c_1 => ?_) (fun c_1 => ?_)
  · replace hw := hw.1 c_1
    refine GK.sub (lv' := [(0, .ref G.2.2.1), (1, .int x1)]) [0, 1] rfl ?_
    exact kt_readsValue_49 C hG hret hXn  _ _ hw
  · replace hw := hw.2 c_1
    refine gk_aload_n (pc := 34) C.1 0 dX6_readsValue_34 rfl rfl ?_
    refine tk_getI (pc := 35) C (k := 45) (by decide) (by decide) q2166 rfl dX6_readsValue_35 ?_
    refine gk_if_le (pc := 38) (tgt := 49) C.1 dX6_readsValue_38 (by decide) (fun c_2 => ?_) (fun c_2 => ?_)
    · replace hw := hw.1 c_2
      refine GK.sub (lv' := [(0, .ref G.2.2.1), (1, .int x1)]) [0, 1] rfl ?_
      exact kt_readsValue_49 C hG hret hXn  _ _ hw
    · replace hw := hw.2 c_2
      refine gk_aload_n (pc := 41) C.1 0 dX6_readsValue_41 rfl rfl ?_
      refine tk_callV (pc := 42) (y := yX6_readsInside) (n := 0) (As := []) (rest := []) C (wk_readsInside (ev_l X) hG hw) q2346 q2348 qs78 q2349 ⟨rfl, by decide +kernel⟩ ⟨by decide, by decide⟩ rfl rfl (Nat.le_of_ble_eq_true rfl) dX6_readsValue_42 (fun v9 u_3 hp => ?_)
      obtain ⟨r_4, rfl, hw⟩ := hp
      refine GK.at (p2 := 45) rfl ?_
      refine gk_istore_n (pc := 45) (lv' := [(1, Value.int r_4), (0, Value.ref G.2.2.1)]) C.1 dX6_readsValue_45 rfl (by rw [hXn]; decide) rfl ?_
      refine gk_goto (pc := 46) (tgt := 30) C.1 dX6_readsValue_46 (by decide) ?_
      refine GK.sub (lv' := [(0, .ref G.2.2.1), (1, .int r_4)]) [1, 0] rfl ?_
      exact ih _ _ hw
def wt_readsValue (k : Int32 → TS → Prop) (u : TS) : Prop := ∀ u_1 : TS, u_1 = tpI u 43 0 → (∀ u_2 : TS, u_2 = tpI u_1 44 (-1) → (∀ u_3 : TS, u_3 = tpI u_2 45 0 → (∀ u_4 : TS, u_4 = tpI u_3 6 0 → (∀ u_5 : TS, u_5 = tpI u_4 46 0 → (wt_readsPart (fun r_7 u_6 => ∃ fu : Nat, wt_readsValue_30 k fu r_7 u_6) u_5)))))
theorem wk_readsValue (l : Launch) {G : TG} (hG : TD G) {k : Int32 → TS → Prop} {u : TS} (hw : wt_readsValue k  u) : TMet l yX6_readsValue cX6_readsValue 2 (some .boolean) 7 G [.ref G.2.2.1] u (tI k) := by
  refine tk_met hG rfl (Nat.le_of_ble_eq_true rfl) (fun X hXl hXn hret C => ?_)
  subst hXl
  unfold wt_readsValue at hw
  refine GK.sub (lv' := [(0, .ref G.2.2.1)]) [0] rfl ?_
  refine gk_aload_n (pc := 0) C.1 0 dX6_readsValue_0 rfl rfl ?_
  refine gk_iconst (pc := 1) (v := 0) C.1 dX6_readsValue_1 (by decide) ?_
  refine tk_putI (pc := 2) C (k := 43) (by decide) (by decide) q2164 rfl rfl (ty := .int) rfl rfl rfl dX6_readsValue_2 (fun u_1 eu_1 => ?_)
  replace hw := hw u_1 eu_1
  refine gk_aload_n (pc := 5) C.1 0 dX6_readsValue_5 rfl rfl ?_
  refine gk_iconst (pc := 6) (v := (-1)) C.1 dX6_readsValue_6 (by decide) ?_
  refine tk_putI (pc := 7) C (k := 44) (by decide) (by decide) q2165 rfl rfl (ty := .int) rfl rfl rfl dX6_readsValue_7 (fun u_2 eu_2 => ?_)
  replace hw := hw u_2 eu_2
  refine gk_aload_n (pc := 10) C.1 0 dX6_readsValue_10 rfl rfl ?_
  refine gk_iconst (pc := 11) (v := 0) C.1 dX6_readsValue_11 (by decide) ?_
  refine tk_putI (pc := 12) C (k := 45) (by decide) (by decide) q2166 rfl rfl (ty := .int) rfl rfl rfl dX6_readsValue_12 (fun u_3 eu_3 => ?_)
  replace hw := hw u_3 eu_3
  refine gk_aload_n (pc := 15) C.1 0 dX6_readsValue_15 rfl rfl ?_
  refine gk_iconst (pc := 16) (v := 0) C.1 dX6_readsValue_16 (by decide) ?_
  refine tk_putI (pc := 17) C (k := 6) (by decide) (by decide) q2127 rfl rfl (ty := .int) rfl rfl rfl dX6_readsValue_17 (fun u_4 eu_4 => ?_)
  replace hw := hw u_4 eu_4
  refine gk_aload_n (pc := 20) C.1 0 dX6_readsValue_20 rfl rfl ?_
  refine gk_iconst (pc := 21) (v := 0) C.1 dX6_readsValue_21 (by decide) ?_
  refine tk_putI (pc := 22) C (k := 46) (by decide) (by decide) q2167 rfl rfl (ty := .int) rfl rfl rfl dX6_readsValue_22 (fun u_5 eu_5 => ?_)
  replace hw := hw u_5 eu_5
  refine gk_aload_n (pc := 25) C.1 0 dX6_readsValue_25 rfl rfl ?_
  refine tk_callV (pc := 26) (y := yX6_readsPart) (n := 0) (As := []) (rest := []) C (wk_readsPart (ev_l X) hG hw) q2315 q2317 qs71 q2318 ⟨rfl, by decide +kernel⟩ ⟨by decide, by decide⟩ rfl rfl (Nat.le_of_ble_eq_true rfl) dX6_readsValue_26 (fun v9 u_6 hp => ?_)
  obtain ⟨r_7, rfl, hw⟩ := hp
  refine GK.at (p2 := 29) rfl ?_
  refine gk_istore_n (pc := 29) (lv' := [(1, Value.int r_7), (0, Value.ref G.2.2.1)]) C.1 dX6_readsValue_29 rfl (by rw [hXn]; decide) rfl ?_
  refine GK.sub (lv' := [(0, .ref G.2.2.1), (1, .int r_7)]) [1, 0] rfl ?_
  obtain ⟨n9, hw⟩ := hw
  exact kt_readsValue_30 C hG hret hXn  n9 _ _ hw
/-! row(I)I -/
def wt_row_24 (k : Int32 → TS → Prop) (x1 : Int32) (x2 : Int32) (u : TS) : Prop := ((x2 = 0 → (vp_in (u.2 52) 32 ∧ (∀ u_2 : TS, u_2 = tpA u 51 (u.2 52).toNatClampNeg x1 → (∀ u_3 : TS, u_3 = tpI u_2 52 ((u_2.2 52) + 1) → (k (u_3.2 52) u_3))))) ∧ (¬ x2 = 0 → (wt_no (fun r_5 u_4 => k r_5 u_4) x2 u)))
theorem kt_row_24 {X : Ev} {G : TG} {k : Int32 → TS → Prop} (C : TC X G cX6_row 2) (hG : TD G) (hret : (ev_h X).sig.returnType = some .int) (hXn : ev_n X = 3) : ∀ (x1 : Int32) (x2 : Int32) (u : TS), wt_row_24 k x1 x2 u → GK X (TP G u) 0 0 (tQ X G (tI k)) 24 [(0, .ref G.2.2.1), (1, .int x1), (2, .int x2)] [] := by
  intro x1 x2 u hw
  unfold wt_row_24 at hw
  refine gk_iload_n (pc := 24) C.1 2 dX6_row_24 rfl rfl ?_
  refine gk_if_eq (pc := 25) (tgt := 34) C.1 dX6_row_25 (by decide) (fun c_1 => ?_) (fun c_1 => ?_)
  · replace hw := hw.1 c_1
    refine gk_aload_n (pc := 34) C.1 0 dX6_row_34 rfl rfl ?_
    refine tk_getA (pc := 35) C (k := 51) (by decide) (by decide) q2172 rfl dX6_row_35 ?_
    refine gk_aload_n (pc := 38) C.1 0 dX6_row_38 rfl rfl ?_
    refine tk_getI (pc := 39) C (k := 52) (by decide) (by decide) q2173 rfl dX6_row_39 ?_
    refine gk_iload_n (pc := 42) C.1 1 dX6_row_42 rfl rfl ?_
    obtain ⟨hi, hw⟩ := hw
    refine tk_ast (pc := 43) C (k := 51) (by decide) hi dX6_row_43 (fun u_2 eu_2 => ?_)
    replace hw := hw u_2 eu_2
    refine gk_aload_n (pc := 44) C.1 0 dX6_row_44 rfl rfl ?_
    refine gk_dup (pc := 45) C.1 dX6_row_45 rfl ?_
    refine tk_getI (pc := 46) C (k := 52) (by decide) (by decide) q2173 rfl dX6_row_46 ?_
    refine gk_iconst (pc := 49) (v := 1) C.1 dX6_row_49 (by decide) ?_
    refine gk_iadd (pc := 50) C.1 dX6_row_50 ?_
    refine tk_putI (pc := 51) C (k := 52) (by decide) (by decide) q2173 rfl rfl (ty := .int) rfl rfl rfl dX6_row_51 (fun u_3 eu_3 => ?_)
    replace hw := hw u_3 eu_3
    refine gk_aload_n (pc := 54) C.1 0 dX6_row_54 rfl rfl ?_
    refine tk_getI (pc := 55) C (k := 52) (by decide) (by decide) q2173 rfl dX6_row_55 ?_
    exact tk_iret (pc := 58) C hret dX6_row_58 hw
  · replace hw := hw.2 c_1
    refine gk_aload_n (pc := 28) C.1 0 dX6_row_28 rfl rfl ?_
    refine gk_iload_n (pc := 29) C.1 2 dX6_row_29 rfl rfl ?_
    refine tk_callV (pc := 30) (y := yX6_no) (n := 1) (As := [.int x2]) (rest := []) C (wk_no (ev_l X) hG hw) q2291 q2293 qs66 q2294 ⟨rfl, by decide +kernel⟩ ⟨by decide, by decide⟩ rfl rfl (Nat.le_of_ble_eq_true rfl) dX6_row_30 (fun v9 u_4 hp => ?_)
    obtain ⟨r_5, rfl, hw⟩ := hp
    refine GK.at (p2 := 33) rfl ?_
    exact tk_iret (pc := 33) C hret dX6_row_33 hw
def wt_row (k : Int32 → TS → Prop) (x1 : Int32) (u : TS) : Prop := wt_bound (fun r_2 u_1 => ((¬ r_2 = 0 → (wt_row_24 k x1 r_2 u_1)) ∧ (r_2 = 0 → (((¬ (u_1.2 52) = 32 → (wt_row_24 k x1 r_2 u_1)) ∧ ((u_1.2 52) = 32 → (wt_row_24 k x1 (-6) u_1))))))) x1 0 99 u
theorem wk_row (l : Launch) {G : TG} (hG : TD G) {k : Int32 → TS → Prop} {x1 : Int32} {u : TS} (hw : wt_row k x1 u) : TMet l yX6_row cX6_row 3 (some .int) 2 G [.ref G.2.2.1, .int x1] u (tI k) := by
  refine tk_met hG rfl (Nat.le_of_ble_eq_true rfl) (fun X hXl hXn hret C => ?_)
  subst hXl
  unfold wt_row at hw
  refine GK.sub (lv' := [(0, .ref G.2.2.1), (1, .int x1)]) [0, 1] rfl ?_
  refine gk_iload_n (pc := 0) C.1 1 dX6_row_0 rfl rfl ?_
  refine gk_iconst (pc := 1) (v := 0) C.1 dX6_row_1 (by decide) ?_
  refine gk_bipush (pc := 2) (v := 99) C.1 dX6_row_2 (by decide) ?_
  refine tk_callS (pc := 4) (y := yX6_bound) (n := 3) (As := [.int x1, .int 0, .int 99]) (rest := []) C (wk_bound (ev_l X) hG hw) q2288 q2289 q2290 ⟨rfl, by decide +kernel⟩ ⟨by decide, by decide⟩ rfl rfl (Nat.le_of_ble_eq_true rfl) dX6_row_4 (fun v9 u_1 hp => ?_)
  obtain ⟨r_2, rfl, hw⟩ := hp
  refine GK.at (p2 := 7) rfl ?_
  refine gk_istore_n (pc := 7) (lv' := [(2, Value.int r_2), (0, Value.ref G.2.2.1), (1, Value.int x1)]) C.1 dX6_row_7 rfl (by rw [hXn]; decide) rfl ?_
  refine gk_iload_n (pc := 8) C.1 0 dX6_row_8 rfl rfl ?_
  refine gk_if_ne (pc := 9) (tgt := 24) C.1 dX6_row_9 (by decide) (fun c_3 => ?_) (fun c_3 => ?_)
  · replace hw := hw.1 c_3
    refine GK.sub (lv' := [(0, .ref G.2.2.1), (1, .int x1), (2, .int r_2)]) [1, 2, 0] rfl ?_
    exact kt_row_24 C hG hret hXn  _ _ _ hw
  · replace hw := hw.2 c_3
    refine gk_aload_n (pc := 12) C.1 1 dX6_row_12 rfl rfl ?_
    refine tk_getI (pc := 13) C (k := 52) (by decide) (by decide) q2173 rfl dX6_row_13 ?_
    refine gk_bipush (pc := 16) (v := 32) C.1 dX6_row_16 (by decide) ?_
    refine gk_icmp_ne (pc := 18) (tgt := 24) C.1 dX6_row_18 (by decide) (fun c_4 => ?_) (fun c_4 => ?_)
    · replace hw := hw.1 c_4
      refine GK.sub (lv' := [(0, .ref G.2.2.1), (1, .int x1), (2, .int r_2)]) [1, 2, 0] rfl ?_
      exact kt_row_24 C hG hret hXn  _ _ _ hw
    · replace hw := hw.2 c_4
      refine gk_bipush (pc := 21) (v := (-6)) C.1 dX6_row_21 (by decide) ?_
      refine gk_istore_n (pc := 23) (lv' := [(2, Value.int (-6)), (0, Value.ref G.2.2.1), (1, Value.int x1)]) C.1 dX6_row_23 rfl (by rw [hXn]; decide) rfl ?_
      refine GK.sub (lv' := [(0, .ref G.2.2.1), (1, .int x1), (2, .int (-6))]) [1, 2, 0] rfl ?_
      exact kt_row_24 C hG hret hXn  _ _ _ hw
/-! same(II)I -/
def wt_same_16 (k : Int32 → TS → Prop)  (u : TS) : Prop := wt_no (fun r_2 u_1 => k r_2 u_1) (-1) u
theorem kt_same_16 {X : Ev} {G : TG} {k : Int32 → TS → Prop} (C : TC X G cX6_same 4) (hG : TD G) (hret : (ev_h X).sig.returnType = some .int) (hXn : ev_n X = 3) : ∀  (u : TS), wt_same_16 k  u → GK X (TP G u) 0 0 (tQ X G (tI k)) 16 [(0, .ref G.2.2.1)] [] := by
  intro  u hw
  unfold wt_same_16 at hw
  refine gk_aload_n (pc := 16) C.1 0 dX6_same_16 rfl rfl ?_
  refine gk_iconst (pc := 17) (v := (-1)) C.1 dX6_same_17 (by decide) ?_
  refine tk_callV (pc := 18) (y := yX6_no) (n := 1) (As := [.int (-1)]) (rest := []) C (wk_no (ev_l X) hG hw) q2291 q2293 qs66 q2294 ⟨rfl, by decide +kernel⟩ ⟨by decide, by decide⟩ rfl rfl (Nat.le_of_ble_eq_true rfl) dX6_same_18 (fun v9 u_1 hp => ?_)
  obtain ⟨r_2, rfl, hw⟩ := hp
  refine GK.at (p2 := 21) rfl ?_
  exact tk_iret (pc := 21) C hret dX6_same_21 hw
def wt_same (k : Int32 → TS → Prop) (x1 : Int32) (x2 : Int32) (u : TS) : Prop := wt_partAt (fun r_2 u_1 => ((r_2 < 0 → (wt_same_16 k u_1)) ∧ (¬ r_2 < 0 → (wt_partAt (fun r_5 u_4 => ((0 ≤ r_5 → (wt_partAt (fun r_8 u_7 => wt_partAt (fun r_10 u_9 => wt_areSame (fun r_12 u_11 => ((r_12 = 0 → (k 0 u_11)) ∧ (¬ r_12 = 0 → (k 1 u_11)))) r_8 r_10 u_9) x2 u_7) x1 u_4)) ∧ (¬ 0 ≤ r_5 → (wt_same_16 k u_4)))) x2 u_1)))) x1 u
theorem wk_same (l : Launch) {G : TG} (hG : TD G) {k : Int32 → TS → Prop} {x1 : Int32} {x2 : Int32} {u : TS} (hw : wt_same k x1 x2 u) : TMet l yX6_same cX6_same 3 (some .int) 4 G [.ref G.2.2.1, .int x1, .int x2] u (tI k) := by
  refine tk_met hG rfl (Nat.le_of_ble_eq_true rfl) (fun X hXl hXn hret C => ?_)
  subst hXl
  unfold wt_same at hw
  refine GK.sub (lv' := [(0, .ref G.2.2.1), (1, .int x1), (2, .int x2)]) [0, 1, 2] rfl ?_
  refine gk_aload_n (pc := 0) C.1 0 dX6_same_0 rfl rfl ?_
  refine gk_iload_n (pc := 1) C.1 1 dX6_same_1 rfl rfl ?_
  refine tk_callV (pc := 2) (y := yX6_partAt) (n := 1) (As := [.int x1]) (rest := []) C (wk_partAt (ev_l X) hG hw) q2429 q2431 qs94 q2432 ⟨rfl, by decide +kernel⟩ ⟨by decide, by decide⟩ rfl rfl (Nat.le_of_ble_eq_true rfl) dX6_same_2 (fun v9 u_1 hp => ?_)
  obtain ⟨r_2, rfl, hw⟩ := hp
  refine GK.at (p2 := 5) rfl ?_
  refine gk_if_lt (pc := 5) (tgt := 16) C.1 dX6_same_5 (by decide) (fun c_3 => ?_) (fun c_3 => ?_)
  · replace hw := hw.1 c_3
    refine GK.sub (lv' := [(0, .ref G.2.2.1)]) [0] rfl ?_
    exact kt_same_16 C hG hret hXn   _ hw
  · replace hw := hw.2 c_3
    refine gk_aload_n (pc := 8) C.1 0 dX6_same_8 rfl rfl ?_
    refine gk_iload_n (pc := 9) C.1 2 dX6_same_9 rfl rfl ?_
    refine tk_callV (pc := 10) (y := yX6_partAt) (n := 1) (As := [.int x2]) (rest := []) C (wk_partAt (ev_l X) hG hw) q2429 q2431 qs94 q2432 ⟨rfl, by decide +kernel⟩ ⟨by decide, by decide⟩ rfl rfl (Nat.le_of_ble_eq_true rfl) dX6_same_10 (fun v9 u_4 hp => ?_)
    obtain ⟨r_5, rfl, hw⟩ := hp
    refine GK.at (p2 := 13) rfl ?_
    refine gk_if_ge (pc := 13) (tgt := 22) C.1 dX6_same_13 (by decide) (fun c_6 => ?_) (fun c_6 => ?_)
    · replace hw := hw.1 c_6
      refine gk_aload_n (pc := 22) C.1 0 dX6_same_22 rfl rfl ?_
      refine gk_aload_n (pc := 23) C.1 0 dX6_same_23 rfl rfl ?_
      refine gk_iload_n (pc := 24) C.1 1 dX6_same_24 rfl rfl ?_
      refine tk_callV (pc := 25) (y := yX6_partAt) (n := 1) (As := [.int x1]) (rest := [.ref G.2.2.1]) C (wk_partAt (ev_l X) hG hw) q2429 q2431 qs94 q2432 ⟨rfl, by decide +kernel⟩ ⟨by decide, by decide⟩ rfl rfl (Nat.le_of_ble_eq_true rfl) dX6_same_25 (fun v9 u_7 hp => ?_)
      obtain ⟨r_8, rfl, hw⟩ := hp
      refine GK.at (p2 := 28) rfl ?_
      refine gk_aload_n (pc := 28) C.1 0 dX6_same_28 rfl rfl ?_
      refine gk_iload_n (pc := 29) C.1 2 dX6_same_29 rfl rfl ?_
      refine tk_callV (pc := 30) (y := yX6_partAt) (n := 1) (As := [.int x2]) (rest := [.int r_8, .ref G.2.2.1]) C (wk_partAt (ev_l X) hG hw) q2429 q2431 qs94 q2432 ⟨rfl, by decide +kernel⟩ ⟨by decide, by decide⟩ rfl rfl (Nat.le_of_ble_eq_true rfl) dX6_same_30 (fun v9 u_9 hp => ?_)
      obtain ⟨r_10, rfl, hw⟩ := hp
      refine GK.at (p2 := 33) rfl ?_
      refine tk_callV (pc := 33) (y := yX6_areSame) (n := 2) (As := [.int r_8, .int r_10]) (rest := []) C (wk_areSame (ev_l X) hG hw) q2532 q2534 qs115 q2535 ⟨rfl, by decide +kernel⟩ ⟨by decide, by decide⟩ rfl rfl (Nat.le_of_ble_eq_true rfl) dX6_same_33 (fun v9 u_11 hp => ?_)
      obtain ⟨r_12, rfl, hw⟩ := hp
      refine GK.at (p2 := 36) rfl ?_
      refine gk_if_eq (pc := 36) (tgt := 43) C.1 dX6_same_36 (by decide) (fun c_13 => ?_) (fun c_13 => ?_)
      · replace hw := hw.1 c_13
        refine gk_iconst (pc := 43) (v := 0) C.1 dX6_same_43 (by decide) ?_
        exact tk_iret (pc := 44) C hret dX6_same_44 hw
      · replace hw := hw.2 c_13
        refine gk_iconst (pc := 39) (v := 1) C.1 dX6_same_39 (by decide) ?_
        refine gk_goto (pc := 40) (tgt := 44) C.1 dX6_same_40 (by decide) ?_
        exact tk_iret (pc := 44) C hret dX6_same_44 hw
    · replace hw := hw.2 c_6
      refine GK.sub (lv' := [(0, .ref G.2.2.1)]) [0] rfl ?_
      exact kt_same_16 C hG hret hXn   _ hw
/-! total()I -/
def wt_total (k : Int32 → TS → Prop) (u : TS) : Prop := wt_manyNow (fun r_2 u_1 => ((r_2 ≤ 0 → (wt_allNumbers (fun r_5 u_4 => k r_5 u_4) u_1)) ∧ (¬ r_2 ≤ 0 → (k (-9) u_1)))) u
theorem wk_total (l : Launch) {G : TG} (hG : TD G) {k : Int32 → TS → Prop} {u : TS} (hw : wt_total k  u) : TMet l yX6_total cX6_total 1 (some .int) 10 G [.ref G.2.2.1] u (tI k) := by
  refine tk_met hG rfl (Nat.le_of_ble_eq_true rfl) (fun X hXl hXn hret C => ?_)
  subst hXl
  unfold wt_total at hw
  refine GK.sub (lv' := [(0, .ref G.2.2.1)]) [0] rfl ?_
  refine gk_aload_n (pc := 0) C.1 0 dX6_total_0 rfl rfl ?_
  refine tk_callV (pc := 1) (y := yX6_manyNow) (n := 0) (As := []) (rest := []) C (wk_manyNow (ev_l X) hG hw) q2457 q2459 qs97 q2460 ⟨rfl, by decide +kernel⟩ ⟨by decide, by decide⟩ rfl rfl (Nat.le_of_ble_eq_true rfl) dX6_total_1 (fun v9 u_1 hp => ?_)
  obtain ⟨r_2, rfl, hw⟩ := hp
  refine GK.at (p2 := 4) rfl ?_
  refine gk_if_le (pc := 4) (tgt := 12) C.1 dX6_total_4 (by decide) (fun c_3 => ?_) (fun c_3 => ?_)
  · replace hw := hw.1 c_3
    refine gk_aload_n (pc := 12) C.1 0 dX6_total_12 rfl rfl ?_
    refine tk_callV (pc := 13) (y := yX6_allNumbers) (n := 0) (As := []) (rest := []) C (wk_allNumbers (ev_l X) hG hw) q2600 q2602 qs124 q2603 ⟨rfl, by decide +kernel⟩ ⟨by decide, by decide⟩ rfl rfl (Nat.le_of_ble_eq_true rfl) dX6_total_13 (fun v9 u_4 hp => ?_)
    obtain ⟨r_5, rfl, hw⟩ := hp
    refine GK.at (p2 := 16) rfl ?_
    exact tk_iret (pc := 16) C hret dX6_total_16 hw
  · replace hw := hw.2 c_3
    refine gk_bipush (pc := 7) (v := (-9)) C.1 dX6_total_7 (by decide) ?_
    refine gk_goto (pc := 9) (tgt := 16) C.1 dX6_total_9 (by decide) ?_
    exact tk_iret (pc := 16) C hret dX6_total_16 hw
/-! value()I -/
def wt_value_36 (k : Int32 → TS → Prop) (x1 : Int32) (u : TS) : Prop := wt_passesValue (fun u_1 => ((x1 = 0 → (k ((-1000) - (u_1.2 43)) u_1)) ∧ (¬ x1 = 0 → (k ((-2000) - (u_1.2 44)) u_1)))) 1 0 u
theorem kt_value_36 {X : Ev} {G : TG} {k : Int32 → TS → Prop} (C : TC X G cX6_value 8) (hG : TD G) (hret : (ev_h X).sig.returnType = some .int) (hXn : ev_n X = 2) : ∀ (x1 : Int32) (u : TS), wt_value_36 k x1 u → GK X (TP G u) 0 0 (tQ X G (tI k)) 36 [(0, .ref G.2.2.1), (1, .int x1)] [] := by
  intro x1 u hw
  unfold wt_value_36 at hw
  refine gk_aload_n (pc := 36) C.1 0 dX6_value_36 rfl rfl ?_
  refine gk_iconst (pc := 37) (v := 1) C.1 dX6_value_37 (by decide) ?_
  refine gk_iconst (pc := 38) (v := 0) C.1 dX6_value_38 (by decide) ?_
  refine tk_callV (pc := 39) (y := yX6_passesValue) (n := 2) (As := [.int 1, .int 0]) (rest := []) C (wk_passesValue (ev_l X) hG hw) q2299 q2301 qs67 q2302 ⟨rfl, by decide +kernel⟩ ⟨by decide, by decide⟩ rfl rfl (Nat.le_of_ble_eq_true rfl) dX6_value_39 (fun v9 u_1 hp => ?_)
  obtain ⟨rfl, hw⟩ := hp
  refine GK.at (p2 := 42) rfl ?_
  refine gk_iload_n (pc := 42) C.1 1 dX6_value_42 rfl rfl ?_
  refine gk_if_eq (pc := 43) (tgt := 57) C.1 dX6_value_43 (by decide) (fun c_2 => ?_) (fun c_2 => ?_)
  · replace hw := hw.1 c_2
    refine gk_sipush (pc := 57) (v := (-1000)) C.1 dX6_value_57 (by decide) ?_
    refine gk_aload_n (pc := 60) C.1 0 dX6_value_60 rfl rfl ?_
    refine tk_getI (pc := 61) C (k := 43) (by decide) (by decide) q2164 rfl dX6_value_61 ?_
    refine gk_isub (pc := 64) C.1 dX6_value_64 ?_
    exact tk_iret (pc := 65) C hret dX6_value_65 hw
  · replace hw := hw.2 c_2
    refine gk_sipush (pc := 46) (v := (-2000)) C.1 dX6_value_46 (by decide) ?_
    refine gk_aload_n (pc := 49) C.1 0 dX6_value_49 rfl rfl ?_
    refine tk_getI (pc := 50) C (k := 44) (by decide) (by decide) q2165 rfl dX6_value_50 ?_
    refine gk_isub (pc := 53) C.1 dX6_value_53 ?_
    refine gk_goto (pc := 54) (tgt := 65) C.1 dX6_value_54 (by decide) ?_
    exact tk_iret (pc := 65) C hret dX6_value_65 hw
def wt_value (k : Int32 → TS → Prop) (u : TS) : Prop := wt_passesValue (fun u_1 => wt_readsValue (fun r_3 u_2 => ∀ u_4 : TS, u_4 = tpI u_2 42 0 → (((r_3 = 0 → (wt_value_36 k r_3 u_4)) ∧ (¬ r_3 = 0 → (((0 ≤ (u_4.2 44) → (wt_value_36 k r_3 u_4)) ∧ (¬ 0 ≤ (u_4.2 44) → (wt_measures (fun u_7 => k (u_7.2 6) u_7) u_4)))))))) u_1) 1 1 u
theorem wk_value (l : Launch) {G : TG} (hG : TD G) {k : Int32 → TS → Prop} {u : TS} (hw : wt_value k  u) : TMet l yX6_value cX6_value 2 (some .int) 8 G [.ref G.2.2.1] u (tI k) := by
  refine tk_met hG rfl (Nat.le_of_ble_eq_true rfl) (fun X hXl hXn hret C => ?_)
  subst hXl
  unfold wt_value at hw
  refine GK.sub (lv' := [(0, .ref G.2.2.1)]) [0] rfl ?_
  refine gk_aload_n (pc := 0) C.1 0 dX6_value_0 rfl rfl ?_
  refine gk_iconst (pc := 1) (v := 1) C.1 dX6_value_1 (by decide) ?_
  refine gk_iconst (pc := 2) (v := 1) C.1 dX6_value_2 (by decide) ?_
  refine tk_callV (pc := 3) (y := yX6_passesValue) (n := 2) (As := [.int 1, .int 1]) (rest := []) C (wk_passesValue (ev_l X) hG hw) q2299 q2301 qs67 q2302 ⟨rfl, by decide +kernel⟩ ⟨by decide, by decide⟩ rfl rfl (Nat.le_of_ble_eq_true rfl) dX6_value_3 (fun v9 u_1 hp => ?_)
  obtain ⟨rfl, hw⟩ := hp
  refine GK.at (p2 := 6) rfl ?_
  refine gk_aload_n (pc := 6) C.1 0 dX6_value_6 rfl rfl ?_
  refine tk_callV (pc := 7) (y := yX6_readsValue) (n := 0) (As := []) (rest := []) C (wk_readsValue (ev_l X) hG hw) q2311 q2313 qs70 q2314 ⟨rfl, by decide +kernel⟩ ⟨by decide, by decide⟩ rfl rfl (Nat.le_of_ble_eq_true rfl) dX6_value_7 (fun v9 u_2 hp => ?_)
  obtain ⟨r_3, rfl, hw⟩ := hp
  refine GK.at (p2 := 10) rfl ?_
  refine gk_istore_n (pc := 10) (lv' := [(1, Value.int r_3), (0, Value.ref G.2.2.1)]) C.1 dX6_value_10 rfl (by rw [hXn]; decide) rfl ?_
  refine gk_aload_n (pc := 11) C.1 1 dX6_value_11 rfl rfl ?_
  refine gk_iconst (pc := 12) (v := 0) C.1 dX6_value_12 (by decide) ?_
  refine tk_putI (pc := 13) C (k := 42) (by decide) (by decide) q2163 rfl rfl (ty := .int) rfl rfl rfl dX6_value_13 (fun u_4 eu_4 => ?_)
  replace hw := hw u_4 eu_4
  refine gk_iload_n (pc := 16) C.1 0 dX6_value_16 rfl rfl ?_
  refine gk_if_eq (pc := 17) (tgt := 36) C.1 dX6_value_17 (by decide) (fun c_5 => ?_) (fun c_5 => ?_)
  · replace hw := hw.1 c_5
    refine GK.sub (lv' := [(0, .ref G.2.2.1), (1, .int r_3)]) [1, 0] rfl ?_
    exact kt_value_36 C hG hret hXn  _ _ hw
  · replace hw := hw.2 c_5
    refine gk_aload_n (pc := 20) C.1 1 dX6_value_20 rfl rfl ?_
    refine tk_getI (pc := 21) C (k := 44) (by decide) (by decide) q2165 rfl dX6_value_21 ?_
    refine gk_if_ge (pc := 24) (tgt := 36) C.1 dX6_value_24 (by decide) (fun c_6 => ?_) (fun c_6 => ?_)
    · replace hw := hw.1 c_6
      refine GK.sub (lv' := [(0, .ref G.2.2.1), (1, .int r_3)]) [1, 0] rfl ?_
      exact kt_value_36 C hG hret hXn  _ _ hw
    · replace hw := hw.2 c_6
      refine gk_aload_n (pc := 27) C.1 1 dX6_value_27 rfl rfl ?_
      refine tk_callV (pc := 28) (y := yX6_measures) (n := 0) (As := []) (rest := []) C (wk_measures (ev_l X) hG hw) q2109 q2111 qs63 q2112 ⟨rfl, by decide +kernel⟩ ⟨by decide, by decide⟩ rfl rfl (Nat.le_of_ble_eq_true rfl) dX6_value_28 (fun v9 u_7 hp => ?_)
      obtain ⟨rfl, hw⟩ := hp
      refine GK.at (p2 := 31) rfl ?_
      refine gk_aload_n (pc := 31) C.1 1 dX6_value_31 rfl rfl ?_
      refine tk_getI (pc := 32) C (k := 6) (by decide) (by decide) q2127 rfl dX6_value_32 ?_
      exact tk_iret (pc := 35) C hret dX6_value_35 hw
/-! which(I)I -/
def wt_which_52 (k : Int32 → TS → Prop) (J21 : Int32 → Int32 → Int32 → TS → Prop) (x2 : Int32) (x4 : Int32) (s0 : Int32) (s1 : Int32) (u : TS) : Prop := ∀ x_1 : Int32, x_1 = s0 ||| s1 → (∀ x_2 : Int32, x_2 = x4 + 1 → (J21 x2 x_1 x_2 u))
theorem kt_which_52 {X : Ev} {G : TG} {k : Int32 → TS → Prop} {J21 : Int32 → Int32 → Int32 → TS → Prop} (C : TC X G cX6_which 11) (hG : TD G) (hret : (ev_h X).sig.returnType = some .int) (hXn : ev_n X = 5) (hJ21 : ∀ (x2 : Int32) (x3 : Int32) (x4 : Int32) (u : TS), J21 x2 x3 x4 u → GK X (TP G u) 0 0 (tQ X G (tI k)) 21 [(0, .ref G.2.2.1), (2, .int x2), (3, .int x3), (4, .int x4)] []) : ∀ (x2 : Int32) (x4 : Int32) (s0 : Int32) (s1 : Int32) (u : TS), wt_which_52 k J21 x2 x4 s0 s1 u → GK X (TP G u) 0 0 (tQ X G (tI k)) 52 [(0, .ref G.2.2.1), (2, .int x2), (4, .int x4)] [.int s1, .int s0] := by
  intro x2 x4 s0 s1 u hw
  unfold wt_which_52 at hw
  refine gk_ior (pc := 52) C.1 dX6_which_52 ?_
  obtain ⟨x_1, ex_1⟩ : ∃ z : Int32, z = s0 ||| s1 := ⟨_, rfl⟩
  rw [← ex_1]
  replace hw := hw x_1 ex_1
  refine gk_istore_n (pc := 53) (lv' := [(3, Value.int x_1), (0, Value.ref G.2.2.1), (2, Value.int x2), (4, Value.int x4)]) C.1 dX6_which_53 rfl (by rw [hXn]; decide) rfl ?_
  obtain ⟨x_2, ex_2⟩ : ∃ z : Int32, z = x4 + 1 := ⟨_, rfl⟩
  replace hw := hw x_2 ex_2
  refine gk_iinc (pc := 54) (v := x_2) (lv' := [(4, Value.int x_2), (3, Value.int x_1), (0, Value.ref G.2.2.1), (2, Value.int x2)]) C.1 3 dX6_which_54 rfl (by rw [ex_2]; rfl) (by rw [hXn]; decide) rfl ?_
  refine gk_goto (pc := 57) (tgt := 21) C.1 dX6_which_57 (by decide) ?_
  refine GK.sub (lv' := [(0, .ref G.2.2.1), (2, .int x2), (3, .int x_1), (4, .int x_2)]) [2, 3, 1, 0] rfl ?_
  exact hJ21 _ _ _ _ hw
def wt_which_21 (k : Int32 → TS → Prop) : Nat → Int32 → Int32 → Int32 → TS → Prop
  | 0 => fun _ _ _ _ => False
  | n + 1 => fun x2 x3 x4 u => ((16 ≤ x4 → (k x3 u)) ∧ (¬ 16 ≤ x4 → (wt_faultsWith (fun r_3 u_2 => wt_isCodedSo (fun r_5 u_4 => ((r_5 = 0 → (wt_which_52 k (fun yx2 yx3 yx4 yu => wt_which_21 k n yx2 yx3 yx4 yu) x2 x4 x3 0 u_4)) ∧ (¬ r_5 = 0 → (wt_which_52 k (fun yx2 yx3 yx4 yu => wt_which_21 k n yx2 yx3 yx4 yu) x2 x4 x3 (1 <<< (x4 &&& 31)) u_4)))) u_2) x2 x4 u)))
theorem kt_which_21 {X : Ev} {G : TG} {k : Int32 → TS → Prop} (C : TC X G cX6_which 11) (hG : TD G) (hret : (ev_h X).sig.returnType = some .int) (hXn : ev_n X = 5) : ∀ (n : Nat) (x2 : Int32) (x3 : Int32) (x4 : Int32) (u : TS), wt_which_21 k n x2 x3 x4 u → GK X (TP G u) 0 0 (tQ X G (tI k)) 21 [(0, .ref G.2.2.1), (2, .int x2), (3, .int x3), (4, .int x4)] [] := by
  intro n
  induction n with
  | zero => intro x2 x3 x4 u hw; exact hw.elim
  | succ n ih =>
  intro x2 x3 x4 u hw
  unfold wt_which_21 at hw
  refine gk_iload (pc := 21) C.1 3 dX6_which_21 rfl ?_
  refine gk_bipush (pc := 23) (v := 16) C.1 dX6_which_23 (by decide) ?_
  refine gk_icmp_ge (pc := 25) (tgt := 60) C.1 dX6_which_25 (by decide) (fun c_1 => ?_) (fun c_1 => ?_)
  · replace hw := hw.1 c_1
    refine gk_iload_n (pc := 60) C.1 2 dX6_which_60 rfl rfl ?_
    exact tk_iret (pc := 61) C hret dX6_which_61 hw
  · replace hw := hw.2 c_1
    refine gk_aload_n (pc := 28) C.1 0 dX6_which_28 rfl rfl ?_
    refine gk_iload_n (pc := 29) C.1 1 dX6_which_29 rfl rfl ?_
    refine gk_iload (pc := 30) C.1 3 dX6_which_30 rfl ?_
    refine tk_callV (pc := 32) (y := yX6_faultsWith) (n := 2) (As := [.int x2, .int x4]) (rest := []) C (wk_faultsWith (ev_l X) hG hw) q2640 q2642 qs129 q2643 ⟨rfl, by decide +kernel⟩ ⟨by decide, by decide⟩ rfl rfl (Nat.le_of_ble_eq_true rfl) dX6_which_32 (fun v9 u_2 hp => ?_)
    obtain ⟨r_3, rfl, hw⟩ := hp
    refine GK.at (p2 := 35) rfl ?_
    refine gk_pop (pc := 35) C.1 dX6_which_35 rfl ?_
    refine gk_iload_n (pc := 36) C.1 2 dX6_which_36 rfl rfl ?_
    refine gk_aload_n (pc := 37) C.1 0 dX6_which_37 rfl rfl ?_
    refine tk_callV (pc := 38) (y := yX6_isCodedSo) (n := 0) (As := []) (rest := [.int x3]) C (wk_isCodedSo (ev_l X) hG hw) q2679 q2681 qs133 q2682 ⟨rfl, by decide +kernel⟩ ⟨by decide, by decide⟩ rfl rfl (Nat.le_of_ble_eq_true rfl) dX6_which_38 (fun v9 u_4 hp => ?_)
    obtain ⟨r_5, rfl, hw⟩ := hp
    refine GK.at (p2 := 41) rfl ?_
    refine gk_if_eq (pc := 41) (tgt := 51) C.1 dX6_which_41 (by decide) (fun c_6 => ?_) (fun c_6 => ?_)
    · replace hw := hw.1 c_6
      refine gk_iconst (pc := 51) (v := 0) C.1 dX6_which_51 (by decide) ?_
      refine GK.sub (lv' := [(0, .ref G.2.2.1), (2, .int x2), (4, .int x4)]) [0, 1, 3] rfl ?_
      exact kt_which_52 C hG hret hXn ih _ _ _ _ _ hw
    · replace hw := hw.2 c_6
      refine gk_iconst (pc := 44) (v := 1) C.1 dX6_which_44 (by decide) ?_
      refine gk_iload (pc := 45) C.1 3 dX6_which_45 rfl ?_
      refine gk_ishl (pc := 47) C.1 dX6_which_47 ?_
      refine gk_goto (pc := 48) (tgt := 52) C.1 dX6_which_48 (by decide) ?_
      refine GK.sub (lv' := [(0, .ref G.2.2.1), (2, .int x2), (4, .int x4)]) [0, 1, 3] rfl ?_
      exact kt_which_52 C hG hret hXn ih _ _ _ _ _ hw
def wt_which (k : Int32 → TS → Prop) (x1 : Int32) (u : TS) : Prop := wt_partAt (fun r_2 u_1 => ((0 ≤ r_2 → (∃ fu : Nat, wt_which_21 k fu r_2 0 0 u_1)) ∧ (¬ 0 ≤ r_2 → (wt_no (fun r_5 u_4 => k r_5 u_4) (-1) u_1)))) x1 u
theorem wk_which (l : Launch) {G : TG} (hG : TD G) {k : Int32 → TS → Prop} {x1 : Int32} {u : TS} (hw : wt_which k x1 u) : TMet l yX6_which cX6_which 5 (some .int) 11 G [.ref G.2.2.1, .int x1] u (tI k) := by
  refine tk_met hG rfl (Nat.le_of_ble_eq_true rfl) (fun X hXl hXn hret C => ?_)
  subst hXl
  unfold wt_which at hw
  refine GK.sub (lv' := [(0, .ref G.2.2.1), (1, .int x1)]) [0, 1] rfl ?_
  refine gk_aload_n (pc := 0) C.1 0 dX6_which_0 rfl rfl ?_
  refine gk_iload_n (pc := 1) C.1 1 dX6_which_1 rfl rfl ?_
  refine tk_callV (pc := 2) (y := yX6_partAt) (n := 1) (As := [.int x1]) (rest := []) C (wk_partAt (ev_l X) hG hw) q2429 q2431 qs94 q2432 ⟨rfl, by decide +kernel⟩ ⟨by decide, by decide⟩ rfl rfl (Nat.le_of_ble_eq_true rfl) dX6_which_2 (fun v9 u_1 hp => ?_)
  obtain ⟨r_2, rfl, hw⟩ := hp
  refine GK.at (p2 := 5) rfl ?_
  refine gk_istore_n (pc := 5) (lv' := [(2, Value.int r_2), (0, Value.ref G.2.2.1), (1, Value.int x1)]) C.1 dX6_which_5 rfl (by rw [hXn]; decide) rfl ?_
  refine gk_iload_n (pc := 6) C.1 0 dX6_which_6 rfl rfl ?_
  refine gk_if_ge (pc := 7) (tgt := 16) C.1 dX6_which_7 (by decide) (fun c_3 => ?_) (fun c_3 => ?_)
  · replace hw := hw.1 c_3
    refine gk_iconst (pc := 16) (v := 0) C.1 dX6_which_16 (by decide) ?_
    refine gk_istore_n (pc := 17) (lv' := [(3, Value.int 0), (2, Value.int r_2), (0, Value.ref G.2.2.1), (1, Value.int x1)]) C.1 dX6_which_17 rfl (by rw [hXn]; decide) rfl ?_
    refine gk_iconst (pc := 18) (v := 0) C.1 dX6_which_18 (by decide) ?_
    refine gk_istore (pc := 19) (lv' := [(4, Value.int 0), (3, Value.int 0), (2, Value.int r_2), (0, Value.ref G.2.2.1), (1, Value.int x1)]) C.1 dX6_which_19 (by rw [hXn]; decide) rfl ?_
    refine GK.sub (lv' := [(0, .ref G.2.2.1), (2, .int r_2), (3, .int 0), (4, .int 0)]) [3, 2, 1, 0] rfl ?_
    obtain ⟨n9, hw⟩ := hw
    exact kt_which_21 C hG hret hXn  n9 _ _ _ _ hw
  · replace hw := hw.2 c_3
    refine gk_aload_n (pc := 10) C.1 1 dX6_which_10 rfl rfl ?_
    refine gk_iconst (pc := 11) (v := (-1)) C.1 dX6_which_11 (by decide) ?_
    refine tk_callV (pc := 12) (y := yX6_no) (n := 1) (As := [.int (-1)]) (rest := []) C (wk_no (ev_l X) hG hw) q2291 q2293 qs66 q2294 ⟨rfl, by decide +kernel⟩ ⟨by decide, by decide⟩ rfl rfl (Nat.le_of_ble_eq_true rfl) dX6_which_12 (fun v9 u_4 hp => ?_)
    obtain ⟨r_5, rfl, hw⟩ := hp
    refine GK.at (p2 := 15) rfl ?_
    exact tk_iret (pc := 15) C hret dX6_which_15 hw
/-! without(I)I -/
def wt_without_24 (k : Int32 → TS → Prop) (x2 : Int32) (s0 : Int32) (u : TS) : Prop := ((s0 = 0 → (wt_minds (fun u_2 => wt_leavesOut (fun u_3 => wt_manyNow (fun r_5 u_4 => wt_forgets (fun u_6 => k r_5 u_6) u_4) u_3) x2 u_2) u)) ∧ (¬ s0 = 0 → (wt_no (fun r_8 u_7 => k r_8 u_7) s0 u)))
theorem kt_without_24 {X : Ev} {G : TG} {k : Int32 → TS → Prop} (C : TC X G cX6_without 10) (hG : TD G) (hret : (ev_h X).sig.returnType = some .int) (hXn : ev_n X = 5) : ∀ (x2 : Int32) (s0 : Int32) (u : TS), wt_without_24 k x2 s0 u → GK X (TP G u) 0 0 (tQ X G (tI k)) 24 [(0, .ref G.2.2.1), (2, .int x2)] [.int s0] := by
  intro x2 s0 u hw
  unfold wt_without_24 at hw
  refine gk_istore_n (pc := 24) (lv' := [(3, Value.int s0), (0, Value.ref G.2.2.1), (2, Value.int x2)]) C.1 dX6_without_24 rfl (by rw [hXn]; decide) rfl ?_
  refine gk_iload_n (pc := 25) C.1 0 dX6_without_25 rfl rfl ?_
  refine gk_if_eq (pc := 26) (tgt := 35) C.1 dX6_without_26 (by decide) (fun c_1 => ?_) (fun c_1 => ?_)
  · replace hw := hw.1 c_1
    refine gk_aload_n (pc := 35) C.1 1 dX6_without_35 rfl rfl ?_
    refine tk_callV (pc := 36) (y := yX6_minds) (n := 0) (As := []) (rest := []) C (wk_minds (ev_l X) hG hw) q2624 q2626 qs126 q2627 ⟨rfl, by decide +kernel⟩ ⟨by decide, by decide⟩ rfl rfl (Nat.le_of_ble_eq_true rfl) dX6_without_36 (fun v9 u_2 hp => ?_)
    obtain ⟨rfl, hw⟩ := hp
    refine GK.at (p2 := 39) rfl ?_
    refine gk_aload_n (pc := 39) C.1 1 dX6_without_39 rfl rfl ?_
    refine gk_iload_n (pc := 40) C.1 2 dX6_without_40 rfl rfl ?_
    refine tk_callV (pc := 41) (y := yX6_leavesOut) (n := 1) (As := [.int x2]) (rest := []) C (wk_leavesOut (ev_l X) hG hw) q2628 q2630 qs127 q2631 ⟨rfl, by decide +kernel⟩ ⟨by decide, by decide⟩ rfl rfl (Nat.le_of_ble_eq_true rfl) dX6_without_41 (fun v9 u_3 hp => ?_)
    obtain ⟨rfl, hw⟩ := hp
    refine GK.at (p2 := 44) rfl ?_
    refine gk_aload_n (pc := 44) C.1 1 dX6_without_44 rfl rfl ?_
    refine tk_callV (pc := 45) (y := yX6_manyNow) (n := 0) (As := []) (rest := []) C (wk_manyNow (ev_l X) hG hw) q2457 q2459 qs97 q2460 ⟨rfl, by decide +kernel⟩ ⟨by decide, by decide⟩ rfl rfl (Nat.le_of_ble_eq_true rfl) dX6_without_45 (fun v9 u_4 hp => ?_)
    obtain ⟨r_5, rfl, hw⟩ := hp
    refine GK.at (p2 := 48) rfl ?_
    refine gk_istore (pc := 48) (lv' := [(4, Value.int r_5), (3, Value.int s0), (0, Value.ref G.2.2.1), (2, Value.int x2)]) C.1 dX6_without_48 (by rw [hXn]; decide) rfl ?_
    refine gk_aload_n (pc := 50) C.1 2 dX6_without_50 rfl rfl ?_
    refine tk_callV (pc := 51) (y := yX6_forgets) (n := 0) (As := []) (rest := []) C (wk_forgets (ev_l X) hG hw) q2632 q2634 qs128 q2635 ⟨rfl, by decide +kernel⟩ ⟨by decide, by decide⟩ rfl rfl (Nat.le_of_ble_eq_true rfl) dX6_without_51 (fun v9 u_6 hp => ?_)
    obtain ⟨rfl, hw⟩ := hp
    refine GK.at (p2 := 54) rfl ?_
    refine gk_iload (pc := 54) C.1 0 dX6_without_54 rfl ?_
    exact tk_iret (pc := 56) C hret dX6_without_56 hw
  · replace hw := hw.2 c_1
    refine gk_aload_n (pc := 29) C.1 1 dX6_without_29 rfl rfl ?_
    refine gk_iload_n (pc := 30) C.1 0 dX6_without_30 rfl rfl ?_
    refine tk_callV (pc := 31) (y := yX6_no) (n := 1) (As := [.int s0]) (rest := []) C (wk_no (ev_l X) hG hw) q2291 q2293 qs66 q2294 ⟨rfl, by decide +kernel⟩ ⟨by decide, by decide⟩ rfl rfl (Nat.le_of_ble_eq_true rfl) dX6_without_31 (fun v9 u_7 hp => ?_)
    obtain ⟨r_8, rfl, hw⟩ := hp
    refine GK.at (p2 := 34) rfl ?_
    exact tk_iret (pc := 34) C hret dX6_without_34 hw
def wt_without (k : Int32 → TS → Prop) (x1 : Int32) (u : TS) : Prop := wt_partAt (fun r_2 u_1 => ((0 ≤ r_2 → (((¬ r_2 = 0 → (wt_without_24 k r_2 0 u_1)) ∧ (r_2 = 0 → (wt_without_24 k r_2 (-3) u_1))))) ∧ (¬ 0 ≤ r_2 → (wt_without_24 k r_2 (-1) u_1)))) x1 u
theorem wk_without (l : Launch) {G : TG} (hG : TD G) {k : Int32 → TS → Prop} {x1 : Int32} {u : TS} (hw : wt_without k x1 u) : TMet l yX6_without cX6_without 5 (some .int) 10 G [.ref G.2.2.1, .int x1] u (tI k) := by
  refine tk_met hG rfl (Nat.le_of_ble_eq_true rfl) (fun X hXl hXn hret C => ?_)
  subst hXl
  unfold wt_without at hw
  refine GK.sub (lv' := [(0, .ref G.2.2.1), (1, .int x1)]) [0, 1] rfl ?_
  refine gk_aload_n (pc := 0) C.1 0 dX6_without_0 rfl rfl ?_
  refine gk_iload_n (pc := 1) C.1 1 dX6_without_1 rfl rfl ?_
  refine tk_callV (pc := 2) (y := yX6_partAt) (n := 1) (As := [.int x1]) (rest := []) C (wk_partAt (ev_l X) hG hw) q2429 q2431 qs94 q2432 ⟨rfl, by decide +kernel⟩ ⟨by decide, by decide⟩ rfl rfl (Nat.le_of_ble_eq_true rfl) dX6_without_2 (fun v9 u_1 hp => ?_)
  obtain ⟨r_2, rfl, hw⟩ := hp
  refine GK.at (p2 := 5) rfl ?_
  refine gk_istore_n (pc := 5) (lv' := [(2, Value.int r_2), (0, Value.ref G.2.2.1), (1, Value.int x1)]) C.1 dX6_without_5 rfl (by rw [hXn]; decide) rfl ?_
  refine gk_iload_n (pc := 6) C.1 0 dX6_without_6 rfl rfl ?_
  refine gk_if_ge (pc := 7) (tgt := 14) C.1 dX6_without_7 (by decide) (fun c_3 => ?_) (fun c_3 => ?_)
  · replace hw := hw.1 c_3
    refine gk_iload_n (pc := 14) C.1 0 dX6_without_14 rfl rfl ?_
    refine gk_if_ne (pc := 15) (tgt := 23) C.1 dX6_without_15 (by decide) (fun c_4 => ?_) (fun c_4 => ?_)
    · replace hw := hw.1 c_4
      refine gk_iconst (pc := 23) (v := 0) C.1 dX6_without_23 (by decide) ?_
      refine GK.sub (lv' := [(0, .ref G.2.2.1), (2, .int r_2)]) [1, 0] rfl ?_
      exact kt_without_24 C hG hret hXn  _ _ _ hw
    · replace hw := hw.2 c_4
      refine gk_bipush (pc := 18) (v := (-3)) C.1 dX6_without_18 (by decide) ?_
      refine gk_goto (pc := 20) (tgt := 24) C.1 dX6_without_20 (by decide) ?_
      refine GK.sub (lv' := [(0, .ref G.2.2.1), (2, .int r_2)]) [1, 0] rfl ?_
      exact kt_without_24 C hG hret hXn  _ _ _ hw
  · replace hw := hw.2 c_3
    refine gk_iconst (pc := 10) (v := (-1)) C.1 dX6_without_10 (by decide) ?_
    refine gk_goto (pc := 11) (tgt := 24) C.1 dX6_without_11 (by decide) ?_
    refine GK.sub (lv' := [(0, .ref G.2.2.1), (2, .int r_2)]) [1, 0] rfl ?_
    exact kt_without_24 C hG hret hXn  _ _ _ hw
