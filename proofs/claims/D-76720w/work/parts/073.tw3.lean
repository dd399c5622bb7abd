set_option maxRecDepth 100000
/-! findsThere(II)V -/
def wt_findsThere (k : TS → Prop) (x1 : Int32) (x2 : Int32) (u : TS) : Prop := vp_in x2 21 ∧ ((((u.1 1 x2.toNatClampNeg) = 1 → (∀ u_2 : TS, u_2 = tpI u 35 ((u.2 35) - 1) → (vp_in x1 25 ∧ (((¬ (u_2.1 7 x1.toNatClampNeg) = 33 → (k u_2)) ∧ ((u_2.1 7 x1.toNatClampNeg) = 33 → (vp_in x2 21 ∧ (wt_finds (fun u_4 => k u_4) (u_2.1 5 x2.toNatClampNeg) 4 u_2)))))))) ∧ (¬ (u.1 1 x2.toNatClampNeg) = 1 → (vp_in x1 25 ∧ (wt_looksAs (fun u_5 => k u_5) (u.1 10 x1.toNatClampNeg) u)))))
theorem wk_findsThere (l : Launch) {G : TG} (hG : TD G) {k : TS → Prop} {x1 : Int32} {x2 : Int32} {u : TS} (hw : wt_findsThere k x1 x2 u) : TMet l yX6_findsThere cX6_findsThere 3 (none) 2 G [.ref G.2.2.1, .int x1, .int x2] u (tV k) := by
  refine tk_met hG rfl (Nat.le_of_ble_eq_true rfl) (fun X hXl hXn hret C => ?_)
  subst hXl
  unfold wt_findsThere at hw
  refine GK.sub (lv' := [(0, .ref G.2.2.1), (1, .int x1), (2, .int x2)]) [0, 1, 2] rfl ?_
  refine gk_aload_n (pc := 0) C.1 0 dX6_findsThere_0 rfl rfl ?_
  refine tk_getA (pc := 1) C (k := 1) (by decide) (by decide) q2122 rfl dX6_findsThere_1 ?_
  refine gk_iload_n (pc := 4) C.1 2 dX6_findsThere_4 rfl rfl ?_
  obtain ⟨hi, hw⟩ := hw
  refine tk_ald (pc := 5) C (k := 1) (by decide) hi dX6_findsThere_5 ?_
  refine gk_iconst (pc := 6) (v := 1) C.1 dX6_findsThere_6 (by decide) ?_
  refine gk_icmp_eq (pc := 7) (tgt := 21) C.1 dX6_findsThere_7 (by decide) (fun c_1 => ?_) (fun c_1 => ?_)
  · replace hw := hw.1 c_1
    refine gk_aload_n (pc := 21) C.1 0 dX6_findsThere_21 rfl rfl ?_
    refine gk_dup (pc := 22) C.1 dX6_findsThere_22 rfl ?_
    refine tk_getI (pc := 23) C (k := 35) (by decide) (by decide) q2156 rfl dX6_findsThere_23 ?_
    refine gk_iconst (pc := 26) (v := 1) C.1 dX6_findsThere_26 (by decide) ?_
    refine gk_isub (pc := 27) C.1 dX6_findsThere_27 ?_
    refine tk_putI (pc := 28) C (k := 35) (by decide) (by decide) q2156 rfl rfl (ty := .int) rfl rfl rfl dX6_findsThere_28 (fun u_2 eu_2 => ?_)
    replace hw := hw u_2 eu_2
    refine gk_aload_n (pc := 31) C.1 0 dX6_findsThere_31 rfl rfl ?_
    refine tk_getA (pc := 32) C (k := 7) (by decide) (by decide) q2128 rfl dX6_findsThere_32 ?_
    refine gk_iload_n (pc := 35) C.1 1 dX6_findsThere_35 rfl rfl ?_
    obtain ⟨hi, hw⟩ := hw
    refine tk_ald (pc := 36) C (k := 7) (by decide) hi dX6_findsThere_36 ?_
    refine gk_bipush (pc := 37) (v := 33) C.1 dX6_findsThere_37 (by decide) ?_
    refine gk_icmp_ne (pc := 39) (tgt := 53) C.1 dX6_findsThere_39 (by decide) (fun c_3 => ?_) (fun c_3 => ?_)
    · replace hw := hw.1 c_3
      exact tk_vret (pc := 53) C hret dX6_findsThere_53 hw
    · replace hw := hw.2 c_3
      refine gk_aload_n (pc := 42) C.1 0 dX6_findsThere_42 rfl rfl ?_
      refine gk_aload_n (pc := 43) C.1 0 dX6_findsThere_43 rfl rfl ?_
      refine tk_getA (pc := 44) C (k := 5) (by decide) (by decide) q2126 rfl dX6_findsThere_44 ?_
      refine gk_iload_n (pc := 47) C.1 2 dX6_findsThere_47 rfl rfl ?_
      obtain ⟨hi, hw⟩ := hw
      refine tk_ald (pc := 48) C (k := 5) (by decide) hi dX6_findsThere_48 ?_
      refine gk_iconst (pc := 49) (v := 4) C.1 dX6_findsThere_49 (by decide) ?_
      refine tk_callV (pc := 50) (y := yX6_finds) (n := 2) (As := [.int (u_2.1 5 x2.toNatClampNeg), .int 4]) (rest := []) C (wk_finds (ev_l X) hG hw) q2477 q2479 qs102 q2480 ⟨rfl, by decide +kernel⟩ ⟨by decide, by decide⟩ rfl rfl (Nat.le_of_ble_eq_true rfl) dX6_findsThere_50 (fun v9 u_4 hp => ?_)
      obtain ⟨rfl, hw⟩ := hp
      refine GK.at (p2 := 53) rfl ?_
      exact tk_vret (pc := 53) C hret dX6_findsThere_53 hw
  · replace hw := hw.2 c_1
    refine gk_aload_n (pc := 10) C.1 0 dX6_findsThere_10 rfl rfl ?_
    refine gk_aload_n (pc := 11) C.1 0 dX6_findsThere_11 rfl rfl ?_
    refine tk_getA (pc := 12) C (k := 10) (by decide) (by decide) q2131 rfl dX6_findsThere_12 ?_
    refine gk_iload_n (pc := 15) C.1 1 dX6_findsThere_15 rfl rfl ?_
    obtain ⟨hi, hw⟩ := hw
    refine tk_ald (pc := 16) C (k := 10) (by decide) hi dX6_findsThere_16 ?_
    refine tk_callV (pc := 17) (y := yX6_looksAs) (n := 1) (As := [.int (u.1 10 x1.toNatClampNeg)]) (rest := []) C (wk_looksAs (ev_l X) hG hw) q2485 q2487 qs104 q2488 ⟨rfl, by decide +kernel⟩ ⟨by decide, by decide⟩ rfl rfl (Nat.le_of_ble_eq_true rfl) dX6_findsThere_17 (fun v9 u_5 hp => ?_)
    obtain ⟨rfl, hw⟩ := hp
    refine GK.at (p2 := 20) rfl ?_
    exact tk_vret (pc := 20) C hret dX6_findsThere_20 hw
/-! goesOn(II)V -/
def wt_goesOn_89 (k : TS → Prop) (x1 : Int32) (x2 : Int32) (u : TS) : Prop := wt_findsThere (fun u_1 => k u_1) x1 x2 u
theorem kt_goesOn_89 {X : Ev} {G : TG} {k : TS → Prop} (C : TC X G cX6_goesOn 7) (hG : TD G) (hret : (ev_h X).sig.returnType = none) (hXn : ev_n X = 3) : ∀ (x1 : Int32) (x2 : Int32) (u : TS), wt_goesOn_89 k x1 x2 u → GK X (TP G u) 0 0 (tQ X G (tV k)) 89 [(0, .ref G.2.2.1), (1, .int x1), (2, .int x2)] [] := by
  intro x1 x2 u hw
  unfold wt_goesOn_89 at hw
  refine gk_aload_n (pc := 89) C.1 0 dX6_goesOn_89 rfl rfl ?_
  refine gk_iload_n (pc := 90) C.1 1 dX6_goesOn_90 rfl rfl ?_
  refine gk_iload_n (pc := 91) C.1 2 dX6_goesOn_91 rfl rfl ?_
  refine tk_callV (pc := 92) (y := yX6_findsThere) (n := 2) (As := [.int x1, .int x2]) (rest := []) C (wk_findsThere (ev_l X) hG hw) q2481 q2483 qs103 q2484 ⟨rfl, by decide +kernel⟩ ⟨by decide, by decide⟩ rfl rfl (Nat.le_of_ble_eq_true rfl) dX6_goesOn_92 (fun v9 u_1 hp => ?_)
  obtain ⟨rfl, hw⟩ := hp
  refine GK.at (p2 := 95) rfl ?_
  refine gk_goto (pc := 95) (tgt := 152) C.1 dX6_goesOn_95 (by decide) ?_
  exact tk_vret (pc := 152) C hret dX6_goesOn_152 hw
def wt_goesOn (k : TS → Prop) (x1 : Int32) (x2 : Int32) (u : TS) : Prop := vp_in x1 25 ∧ ((((u.1 7 x1.toNatClampNeg) = 33 → (wt_goesOn_89 k x1 x2 u)) ∧ (¬ (u.1 7 x1.toNatClampNeg) = 33 → (((u.1 7 x1.toNatClampNeg) = 35 → (wt_findsNumber (fun u_3 => k u_3) x1 x2 u)) ∧ (¬ (u.1 7 x1.toNatClampNeg) = 35 → (((u.1 7 x1.toNatClampNeg) = 38 → (wt_findsAgain (fun u_5 => k u_5) x1 x2 u)) ∧ (¬ (u.1 7 x1.toNatClampNeg) = 38 → (((u.1 7 x1.toNatClampNeg) = 47 → (wt_findsEither (fun u_7 => k u_7) x1 x2 u)) ∧ (¬ (u.1 7 x1.toNatClampNeg) = 47 → (((u.1 7 x1.toNatClampNeg) = 64 → (wt_findsList (fun u_9 => k u_9) x1 x2 u)) ∧ (¬ (u.1 7 x1.toNatClampNeg) = 64 → (((u.1 7 x1.toNatClampNeg) = 94 → (wt_looksAs (fun u_11 => k u_11) 0 u)) ∧ (¬ (u.1 7 x1.toNatClampNeg) = 94 → (((u.1 7 x1.toNatClampNeg) = 123 → (wt_findsRecord (fun u_13 => k u_13) x1 x2 u)) ∧ (¬ (u.1 7 x1.toNatClampNeg) = 123 → (((u.1 7 x1.toNatClampNeg) = 126 → (wt_goesOn_89 k x1 x2 u)) ∧ (¬ (u.1 7 x1.toNatClampNeg) = 126 → (∀ u_15 : TS, u_15 = tpI u 35 ((u.2 35) - 1) → (k u_15)))))))))))))))))))
theorem wk_goesOn (l : Launch) {G : TG} (hG : TD G) {k : TS → Prop} {x1 : Int32} {x2 : Int32} {u : TS} (hw : wt_goesOn k x1 x2 u) : TMet l yX6_goesOn cX6_goesOn 3 (none) 7 G [.ref G.2.2.1, .int x1, .int x2] u (tV k) := by
  refine tk_met hG rfl (Nat.le_of_ble_eq_true rfl) (fun X hXl hXn hret C => ?_)
  subst hXl
  unfold wt_goesOn at hw
  refine GK.sub (lv' := [(0, .ref G.2.2.1), (1, .int x1), (2, .int x2)]) [0, 1, 2] rfl ?_
  refine gk_aload_n (pc := 0) C.1 0 dX6_goesOn_0 rfl rfl ?_
  refine tk_getA (pc := 1) C (k := 7) (by decide) (by decide) q2128 rfl dX6_goesOn_1 ?_
  refine gk_iload_n (pc := 4) C.1 1 dX6_goesOn_4 rfl rfl ?_
  obtain ⟨hi, hw⟩ := hw
  refine tk_ald (pc := 5) C (k := 7) (by decide) hi dX6_goesOn_5 ?_
  by_cases c_1 : (u.1 7 x1.toNatClampNeg) = 33
  · replace hw := hw.1 c_1
    refine gk_lookup (pc := 6) (off := 83) (tgt := 89) C.1 dX6_goesOn_6 (by decide) (by rw [c_1]; decide) (by decide) ?_
    refine GK.sub (lv' := [(0, .ref G.2.2.1), (1, .int x1), (2, .int x2)]) [0, 1, 2] rfl ?_
    exact kt_goesOn_89 C hG hret hXn  _ _ _ hw
  · replace hw := hw.2 c_1
    by_cases c_2 : (u.1 7 x1.toNatClampNeg) = 35
    · replace hw := hw.1 c_2
      refine gk_lookup (pc := 6) (off := 74) (tgt := 80) C.1 dX6_goesOn_6 (by decide) (by rw [c_2]; decide) (by decide) ?_
      refine gk_aload_n (pc := 80) C.1 0 dX6_goesOn_80 rfl rfl ?_
      refine gk_iload_n (pc := 81) C.1 1 dX6_goesOn_81 rfl rfl ?_
      refine gk_iload_n (pc := 82) C.1 2 dX6_goesOn_82 rfl rfl ?_
      refine tk_callV (pc := 83) (y := yX6_findsNumber) (n := 2) (As := [.int x1, .int x2]) (rest := []) C (wk_findsNumber (ev_l X) hG hw) q2473 q2475 qs101 q2476 ⟨rfl, by decide +kernel⟩ ⟨by decide, by decide⟩ rfl rfl (Nat.le_of_ble_eq_true rfl) dX6_goesOn_83 (fun v9 u_3 hp => ?_)
      obtain ⟨rfl, hw⟩ := hp
      refine GK.at (p2 := 86) rfl ?_
      refine gk_goto (pc := 86) (tgt := 152) C.1 dX6_goesOn_86 (by decide) ?_
      exact tk_vret (pc := 152) C hret dX6_goesOn_152 hw
    · replace hw := hw.2 c_2
      by_cases c_4 : (u.1 7 x1.toNatClampNeg) = 38
      · replace hw := hw.1 c_4
        refine gk_lookup (pc := 6) (off := 110) (tgt := 116) C.1 dX6_goesOn_6 (by decide) (by rw [c_4]; decide) (by decide) ?_
        refine gk_aload_n (pc := 116) C.1 0 dX6_goesOn_116 rfl rfl ?_
        refine gk_iload_n (pc := 117) C.1 1 dX6_goesOn_117 rfl rfl ?_
        refine gk_iload_n (pc := 118) C.1 2 dX6_goesOn_118 rfl rfl ?_
        refine tk_callV (pc := 119) (y := yX6_findsAgain) (n := 2) (As := [.int x1, .int x2]) (rest := []) C (wk_findsAgain (ev_l X) hG hw) q2547 q2549 qs118 q2550 ⟨rfl, by decide +kernel⟩ ⟨by decide, by decide⟩ rfl rfl (Nat.le_of_ble_eq_true rfl) dX6_goesOn_119 (fun v9 u_5 hp => ?_)
        obtain ⟨rfl, hw⟩ := hp
        refine GK.at (p2 := 122) rfl ?_
        refine gk_goto (pc := 122) (tgt := 152) C.1 dX6_goesOn_122 (by decide) ?_
        exact tk_vret (pc := 152) C hret dX6_goesOn_152 hw
      · replace hw := hw.2 c_4
        by_cases c_6 : (u.1 7 x1.toNatClampNeg) = 47
        · replace hw := hw.1 c_6
          refine gk_lookup (pc := 6) (off := 119) (tgt := 125) C.1 dX6_goesOn_6 (by decide) (by rw [c_6]; decide) (by decide) ?_
          refine gk_aload_n (pc := 125) C.1 0 dX6_goesOn_125 rfl rfl ?_
          refine gk_iload_n (pc := 126) C.1 1 dX6_goesOn_126 rfl rfl ?_
          refine gk_iload_n (pc := 127) C.1 2 dX6_goesOn_127 rfl rfl ?_
          refine tk_callV (pc := 128) (y := yX6_findsEither) (n := 2) (As := [.int x1, .int x2]) (rest := []) C (wk_findsEither (ev_l X) hG hw) q2555 q2557 qs120 q2558 ⟨rfl, by decide +kernel⟩ ⟨by decide, by decide⟩ rfl rfl (Nat.le_of_ble_eq_true rfl) dX6_goesOn_128 (fun v9 u_7 hp => ?_)
          obtain ⟨rfl, hw⟩ := hp
          refine GK.at (p2 := 131) rfl ?_
          refine gk_goto (pc := 131) (tgt := 152) C.1 dX6_goesOn_131 (by decide) ?_
          exact tk_vret (pc := 152) C hret dX6_goesOn_152 hw
        · replace hw := hw.2 c_6
          by_cases c_8 : (u.1 7 x1.toNatClampNeg) = 64
          · replace hw := hw.1 c_8
            refine gk_lookup (pc := 6) (off := 101) (tgt := 107) C.1 dX6_goesOn_6 (by decide) (by rw [c_8]; decide) (by decide) ?_
            refine gk_aload_n (pc := 107) C.1 0 dX6_goesOn_107 rfl rfl ?_
            refine gk_iload_n (pc := 108) C.1 1 dX6_goesOn_108 rfl rfl ?_
            refine gk_iload_n (pc := 109) C.1 2 dX6_goesOn_109 rfl rfl ?_
            refine tk_callV (pc := 110) (y := yX6_findsList) (n := 2) (As := [.int x1, .int x2]) (rest := []) C (wk_findsList (ev_l X) hG hw) q2543 q2545 qs117 q2546 ⟨rfl, by decide +kernel⟩ ⟨by decide, by decide⟩ rfl rfl (Nat.le_of_ble_eq_true rfl) dX6_goesOn_110 (fun v9 u_9 hp => ?_)
            obtain ⟨rfl, hw⟩ := hp
            refine GK.at (p2 := 113) rfl ?_
            refine gk_goto (pc := 113) (tgt := 152) C.1 dX6_goesOn_113 (by decide) ?_
            exact tk_vret (pc := 152) C hret dX6_goesOn_152 hw
          · replace hw := hw.2 c_8
            by_cases c_10 : (u.1 7 x1.toNatClampNeg) = 94
            · replace hw := hw.1 c_10
              refine gk_lookup (pc := 6) (off := 128) (tgt := 134) C.1 dX6_goesOn_6 (by decide) (by rw [c_10]; decide) (by decide) ?_
              refine gk_aload_n (pc := 134) C.1 0 dX6_goesOn_134 rfl rfl ?_
              refine gk_iconst (pc := 135) (v := 0) C.1 dX6_goesOn_135 (by decide) ?_
              refine tk_callV (pc := 136) (y := yX6_looksAs) (n := 1) (As := [.int 0]) (rest := []) C (wk_looksAs (ev_l X) hG hw) q2485 q2487 qs104 q2488 ⟨rfl, by decide +kernel⟩ ⟨by decide, by decide⟩ rfl rfl (Nat.le_of_ble_eq_true rfl) dX6_goesOn_136 (fun v9 u_11 hp => ?_)
              obtain ⟨rfl, hw⟩ := hp
              refine GK.at (p2 := 139) rfl ?_
              refine gk_goto (pc := 139) (tgt := 152) C.1 dX6_goesOn_139 (by decide) ?_
              exact tk_vret (pc := 152) C hret dX6_goesOn_152 hw
            · replace hw := hw.2 c_10
              by_cases c_12 : (u.1 7 x1.toNatClampNeg) = 123
              · replace hw := hw.1 c_12
                refine gk_lookup (pc := 6) (off := 92) (tgt := 98) C.1 dX6_goesOn_6 (by decide) (by rw [c_12]; decide) (by decide) ?_
                refine gk_aload_n (pc := 98) C.1 0 dX6_goesOn_98 rfl rfl ?_
                refine gk_iload_n (pc := 99) C.1 1 dX6_goesOn_99 rfl rfl ?_
                refine gk_iload_n (pc := 100) C.1 2 dX6_goesOn_100 rfl rfl ?_
                refine tk_callV (pc := 101) (y := yX6_findsRecord) (n := 2) (As := [.int x1, .int x2]) (rest := []) C (wk_findsRecord (ev_l X) hG hw) q2489 q2491 qs105 q2492 ⟨rfl, by decide +kernel⟩ ⟨by decide, by decide⟩ rfl rfl (Nat.le_of_ble_eq_true rfl) dX6_goesOn_101 (fun v9 u_13 hp => ?_)
                obtain ⟨rfl, hw⟩ := hp
                refine GK.at (p2 := 104) rfl ?_
                refine gk_goto (pc := 104) (tgt := 152) C.1 dX6_goesOn_104 (by decide) ?_
                exact tk_vret (pc := 152) C hret dX6_goesOn_152 hw
              · replace hw := hw.2 c_12
                by_cases c_14 : (u.1 7 x1.toNatClampNeg) = 126
                · replace hw := hw.1 c_14
                  refine gk_lookup (pc := 6) (off := 83) (tgt := 89) C.1 dX6_goesOn_6 (by decide) (by rw [c_14]; decide) (by decide) ?_
                  refine GK.sub (lv' := [(0, .ref G.2.2.1), (1, .int x1), (2, .int x2)]) [0, 1, 2] rfl ?_
                  exact kt_goesOn_89 C hG hret hXn  _ _ _ hw
                · replace hw := hw.2 c_14
                  refine gk_lookup (pc := 6) (off := 136) (tgt := 142) C.1 dX6_goesOn_6 (by decide) ((lv_osw c_1 (k := 33) (by decide)).trans ((lv_osw c_2 (k := 35) (by decide)).trans ((lv_osw c_4 (k := 38) (by decide)).trans ((lv_osw c_6 (k := 47) (by decide)).trans ((lv_osw c_8 (k := 64) (by decide)).trans ((lv_osw c_10 (k := 94) (by decide)).trans ((lv_osw c_12 (k := 123) (by decide)).trans ((lv_osw c_14 (k := 126) (by decide)).trans (rfl))))))))) (by decide) ?_
                  refine gk_aload_n (pc := 142) C.1 0 dX6_goesOn_142 rfl rfl ?_
                  refine gk_dup (pc := 143) C.1 dX6_goesOn_143 rfl ?_
                  refine tk_getI (pc := 144) C (k := 35) (by decide) (by decide) q2156 rfl dX6_goesOn_144 ?_
                  refine gk_iconst (pc := 147) (v := 1) C.1 dX6_goesOn_147 (by decide) ?_
                  refine gk_isub (pc := 148) C.1 dX6_goesOn_148 ?_
                  refine tk_putI (pc := 149) C (k := 35) (by decide) (by decide) q2156 rfl rfl (ty := .int) rfl rfl rfl dX6_goesOn_149 (fun u_15 eu_15 => ?_)
                  replace hw := hw u_15 eu_15
                  exact tk_vret (pc := 152) C hret dX6_goesOn_152 hw
/-! findFaults()V -/
def wt_findFaults_21 (k : TS → Prop) : Nat → TS → Prop
  | 0 => fun  _ => False
  | n + 1 => fun  u => (((u.2 35) ≤ 0 → (k u)) ∧ (¬ (u.2 35) ≤ 0 → (vp_in ((u.2 35) - 1) 400 ∧ (vp_in ((u.2 35) - 1) 400 ∧ (wt_goesOn (fun u_2 => wt_findFaults_21 k n u_2) (u.1 26 ((u.2 35) - 1).toNatClampNeg) (u.1 27 ((u.2 35) - 1).toNatClampNeg) u)))))
theorem kt_findFaults_21 {X : Ev} {G : TG} {k : TS → Prop} (C : TC X G cX6_findFaults 8) (hG : TD G) (hret : (ev_h X).sig.returnType = none) (hXn : ev_n X = 1) : ∀ (n : Nat)  (u : TS), wt_findFaults_21 k n  u → GK X (TP G u) 0 0 (tQ X G (tV k)) 21 [(0, .ref G.2.2.1)] [] := by
  intro n
  induction n with
  | zero => intro  u hw; exact hw.elim
  | succ n ih =>
  intro  u hw
  unfold wt_findFaults_21 at hw
  refine gk_aload_n (pc := 21) C.1 0 dX6_findFaults_21 rfl rfl ?_
  refine tk_getI (pc := 22) C (k := 35) (by decide) (by decide) q2156 rfl dX6_findFaults_22 ?_
  refine gk_if_le (pc := 25) (tgt := 57) C.1 dX6_findFaults_25 (by decide) (fun c_1 => ?_) (fun c_1 => ?_)
  · replace hw := hw.1 c_1
    exact tk_vret (pc := 57) C hret dX6_findFaults_57 hw
  · replace hw := hw.2 c_1
    refine gk_aload_n (pc := 28) C.1 0 dX6_findFaults_28 rfl rfl ?_
    refine gk_aload_n (pc := 29) C.1 0 dX6_findFaults_29 rfl rfl ?_
    refine tk_getA (pc := 30) C (k := 26) (by decide) (by decide) q2147 rfl dX6_findFaults_30 ?_
    refine gk_aload_n (pc := 33) C.1 0 dX6_findFaults_33 rfl rfl ?_
    refine tk_getI (pc := 34) C (k := 35) (by decide) (by decide) q2156 rfl dX6_findFaults_34 ?_
    refine gk_iconst (pc := 37) (v := 1) C.1 dX6_findFaults_37 (by decide) ?_
    refine gk_isub (pc := 38) C.1 dX6_findFaults_38 ?_
    obtain ⟨hi, hw⟩ := hw
    refine tk_ald (pc := 39) C (k := 26) (by decide) hi dX6_findFaults_39 ?_
    refine gk_aload_n (pc := 40) C.1 0 dX6_findFaults_40 rfl rfl ?_
    refine tk_getA (pc := 41) C (k := 27) (by decide) (by decide) q2148 rfl dX6_findFaults_41 ?_
    refine gk_aload_n (pc := 44) C.1 0 dX6_findFaults_44 rfl rfl ?_
    refine tk_getI (pc := 45) C (k := 35) (by decide) (by decide) q2156 rfl dX6_findFaults_45 ?_
    refine gk_iconst (pc := 48) (v := 1) C.1 dX6_findFaults_48 (by decide) ?_
    refine gk_isub (pc := 49) C.1 dX6_findFaults_49 ?_
    obtain ⟨hi, hw⟩ := hw
    refine tk_ald (pc := 50) C (k := 27) (by decide) hi dX6_findFaults_50 ?_
    refine tk_callV (pc := 51) (y := yX6_goesOn) (n := 2) (As := [.int (u.1 26 ((u.2 35) - 1).toNatClampNeg), .int (u.1 27 ((u.2 35) - 1).toNatClampNeg)]) (rest := []) C (wk_goesOn (ev_l X) hG hw) q2469 q2471 qs100 q2472 ⟨rfl, by decide +kernel⟩ ⟨by decide, by decide⟩ rfl rfl (Nat.le_of_ble_eq_true rfl) dX6_findFaults_51 (fun v9 u_2 hp => ?_)
    obtain ⟨rfl, hw⟩ := hp
    refine GK.at (p2 := 54) rfl ?_
    refine gk_goto (pc := 54) (tgt := 21) C.1 dX6_findFaults_54 (by decide) ?_
    refine GK.sub (lv' := [(0, .ref G.2.2.1)]) [0] rfl ?_
    exact ih  _ hw
def wt_findFaults (k : TS → Prop) (u : TS) : Prop := ∀ u_1 : TS, u_1 = tpI u 33 0 → (∀ u_2 : TS, u_2 = tpI u_1 34 0 → (∀ u_3 : TS, u_3 = tpI u_2 35 0 → (wt_looks (fun u_4 => ∃ fu : Nat, wt_findFaults_21 k fu u_4) 0 0 u_3)))
theorem wk_findFaults (l : Launch) {G : TG} (hG : TD G) {k : TS → Prop} {u : TS} (hw : wt_findFaults k  u) : TMet l yX6_findFaults cX6_findFaults 1 (none) 8 G [.ref G.2.2.1] u (tV k) := by
  refine tk_met hG rfl (Nat.le_of_ble_eq_true rfl) (fun X hXl hXn hret C => ?_)
  subst hXl
  unfold wt_findFaults at hw
  refine GK.sub (lv' := [(0, .ref G.2.2.1)]) [0] rfl ?_
  refine gk_aload_n (pc := 0) C.1 0 dX6_findFaults_0 rfl rfl ?_
  refine gk_iconst (pc := 1) (v := 0) C.1 dX6_findFaults_1 (by decide) ?_
  refine tk_putI (pc := 2) C (k := 33) (by decide) (by decide) q2154 rfl rfl (ty := .int) rfl rfl rfl dX6_findFaults_2 (fun u_1 eu_1 => ?_)
  replace hw := hw u_1 eu_1
  refine gk_aload_n (pc := 5) C.1 0 dX6_findFaults_5 rfl rfl ?_
  refine gk_iconst (pc := 6) (v := 0) C.1 dX6_findFaults_6 (by decide) ?_
  refine tk_putI (pc := 7) C (k := 34) (by decide) (by decide) q2155 rfl rfl (ty := .int) rfl rfl rfl dX6_findFaults_7 (fun u_2 eu_2 => ?_)
  replace hw := hw u_2 eu_2
  refine gk_aload_n (pc := 10) C.1 0 dX6_findFaults_10 rfl rfl ?_
  refine gk_iconst (pc := 11) (v := 0) C.1 dX6_findFaults_11 (by decide) ?_
  refine tk_putI (pc := 12) C (k := 35) (by decide) (by decide) q2156 rfl rfl (ty := .int) rfl rfl rfl dX6_findFaults_12 (fun u_3 eu_3 => ?_)
  replace hw := hw u_3 eu_3
  refine gk_aload_n (pc := 15) C.1 0 dX6_findFaults_15 rfl rfl ?_
  refine gk_iconst (pc := 16) (v := 0) C.1 dX6_findFaults_16 (by decide) ?_
  refine gk_iconst (pc := 17) (v := 0) C.1 dX6_findFaults_17 (by decide) ?_
  refine tk_callV (pc := 18) (y := yX6_looks) (n := 2) (As := [.int 0, .int 0]) (rest := []) C (wk_looks (ev_l X) hG hw) q2465 q2467 qs99 q2468 ⟨rfl, by decide +kernel⟩ ⟨by decide, by decide⟩ rfl rfl (Nat.le_of_ble_eq_true rfl) dX6_findFaults_18 (fun v9 u_4 hp => ?_)
  obtain ⟨rfl, hw⟩ := hp
  refine GK.at (p2 := 21) rfl ?_
  refine GK.sub (lv' := [(0, .ref G.2.2.1)]) [0] rfl ?_
  obtain ⟨n9, hw⟩ := hw
  exact kt_findFaults_21 C hG hret hXn  n9  _ hw
/-! manyNow()I -/
def wt_manyNow (k : Int32 → TS → Prop) (u : TS) : Prop := wt_findFaults (fun u_1 => k (u_1.2 33) u_1) u
theorem wk_manyNow (l : Launch) {G : TG} (hG : TD G) {k : Int32 → TS → Prop} {u : TS} (hw : wt_manyNow k  u) : TMet l yX6_manyNow cX6_manyNow 1 (some .int) 9 G [.ref G.2.2.1] u (tI k) := by
  refine tk_met hG rfl (Nat.le_of_ble_eq_true rfl) (fun X hXl hXn hret C => ?_)
  subst hXl
  unfold wt_manyNow at hw
  refine GK.sub (lv' := [(0, .ref G.2.2.1)]) [0] rfl ?_
  refine gk_aload_n (pc := 0) C.1 0 dX6_manyNow_0 rfl rfl ?_
  refine tk_callV (pc := 1) (y := yX6_findFaults) (n := 0) (As := []) (rest := []) C (wk_findFaults (ev_l X) hG hw) q2461 q2463 qs98 q2464 ⟨rfl, by decide +kernel⟩ ⟨by decide, by decide⟩ rfl rfl (Nat.le_of_ble_eq_true rfl) dX6_manyNow_1 (fun v9 u_1 hp => ?_)
  obtain ⟨rfl, hw⟩ := hp
  refine GK.at (p2 := 4) rfl ?_
  refine gk_aload_n (pc := 4) C.1 0 dX6_manyNow_4 rfl rfl ?_
  refine tk_getI (pc := 5) C (k := 33) (by decide) (by decide) q2154 rfl dX6_manyNow_5 ?_
  exact tk_iret (pc := 8) C hret dX6_manyNow_8 hw
/-! no(I)I -/
def wt_no (k : Int32 → TS → Prop) (x1 : Int32) (u : TS) : Prop := vp_in (-x1) 7 ∧ (vp_in (-x1) 7 ∧ (∀ u_1 : TS, u_1 = tpA u 0 (-x1).toNatClampNeg ((u.1 0 (-x1).toNatClampNeg) + 1) → (k x1 u_1)))
theorem wk_no (l : Launch) {G : TG} (hG : TD G) {k : Int32 → TS → Prop} {x1 : Int32} {u : TS} (hw : wt_no k x1 u) : TMet l yX6_no cX6_no 2 (some .int) 1 G [.ref G.2.2.1, .int x1] u (tI k) := by
  refine tk_met hG rfl (Nat.le_of_ble_eq_true rfl) (fun X hXl hXn hret C => ?_)
  subst hXl
  unfold wt_no at hw
  refine GK.sub (lv' := [(0, .ref G.2.2.1), (1, .int x1)]) [0, 1] rfl ?_
  refine gk_aload_n (pc := 0) C.1 0 dX6_no_0 rfl rfl ?_
  refine tk_getA (pc := 1) C (k := 0) (by decide) (by decide) q2121 rfl dX6_no_1 ?_
  refine gk_iload_n (pc := 4) C.1 1 dX6_no_4 rfl rfl ?_
  refine gk_ineg (pc := 5) C.1 dX6_no_5 ?_
  refine gk_dup2 (pc := 6) C.1 dX6_no_6 rfl rfl ?_
  obtain ⟨hi, hw⟩ := hw
  refine tk_ald (pc := 7) C (k := 0) (by decide) hi dX6_no_7 ?_
  refine gk_iconst (pc := 8) (v := 1) C.1 dX6_no_8 (by decide) ?_
  refine gk_iadd (pc := 9) C.1 dX6_no_9 ?_
  obtain ⟨hi, hw⟩ := hw
  refine tk_ast (pc := 10) C (k := 0) (by decide) hi dX6_no_10 (fun u_1 eu_1 => ?_)
  replace hw := hw u_1 eu_1
  refine gk_iload_n (pc := 11) C.1 1 dX6_no_11 rfl rfl ?_
  exact tk_iret (pc := 12) C hret dX6_no_12 hw
/-! below(I)I -/
def wt_below_54 (k : Int32 → TS → Prop) (J29 : Int32 → Int32 → Int32 → TS → Prop) (x1 : Int32) (x4 : Int32) (s0 : Int32) (s1 : Int32) (u : TS) : Prop := ∀ x_1 : Int32, x_1 = s0 + s1 → (∀ x_2 : Int32, x_2 = x4 + (-1) → (J29 x1 x_1 x_2 u))
theorem kt_below_54 {X : Ev} {G : TG} {k : Int32 → TS → Prop} {J29 : Int32 → Int32 → Int32 → TS → Prop} (C : TC X G cX6_below 10) (hG : TD G) (hret : (ev_h X).sig.returnType = some .int) (hXn : ev_n X = 5) (hJ29 : ∀ (x1 : Int32) (x3 : Int32) (x4 : Int32) (u : TS), J29 x1 x3 x4 u → GK X (TP G u) 0 0 (tQ X G (tI k)) 29 [(0, .ref G.2.2.1), (1, .int x1), (3, .int x3), (4, .int x4)] []) : ∀ (x1 : Int32) (x4 : Int32) (s0 : Int32) (s1 : Int32) (u : TS), wt_below_54 k J29 x1 x4 s0 s1 u → GK X (TP G u) 0 0 (tQ X G (tI k)) 54 [(0, .ref G.2.2.1), (1, .int x1), (4, .int x4)] [.int s1, .int s0] := by
  intro x1 x4 s0 s1 u hw
  unfold wt_below_54 at hw
  refine gk_iadd (pc := 54) C.1 dX6_below_54 ?_
  obtain ⟨x_1, ex_1⟩ : ∃ z : Int32, z = s0 + s1 := ⟨_, rfl⟩
  rw [← ex_1]
  replace hw := hw x_1 ex_1
  refine gk_istore_n (pc := 55) (lv' := [(3, Value.int x_1), (0, Value.ref G.2.2.1), (1, Value.int x1), (4, Value.int x4)]) C.1 dX6_below_55 rfl (by rw [hXn]; decide) rfl ?_
  obtain ⟨x_2, ex_2⟩ : ∃ z : Int32, z = x4 + (-1) := ⟨_, rfl⟩
  replace hw := hw x_2 ex_2
  refine gk_iinc (pc := 56) (v := x_2) (lv' := [(4, Value.int x_2), (3, Value.int x_1), (0, Value.ref G.2.2.1), (1, Value.int x1)]) C.1 3 dX6_below_56 rfl (by rw [ex_2]; rfl) (by rw [hXn]; decide) rfl ?_
  refine gk_goto (pc := 59) (tgt := 29) C.1 dX6_below_59 (by decide) ?_
  refine GK.sub (lv' := [(0, .ref G.2.2.1), (1, .int x1), (3, .int x_1), (4, .int x_2)]) [2, 3, 1, 0] rfl ?_
  exact hJ29 _ _ _ _ hw
def wt_below_29 (k : Int32 → TS → Prop) : Nat → Int32 → Int32 → Int32 → TS → Prop
  | 0 => fun _ _ _ _ => False
  | n + 1 => fun x1 x3 x4 u => ((x4 < 0 → (k x3 u)) ∧ (¬ x4 < 0 → (vp_in x4 16384 ∧ (wt_isBelow (fun r_3 u_2 => ((r_3 = 0 → (wt_below_54 k (fun yx1 yx3 yx4 yu => wt_below_29 k n yx1 yx3 yx4 yu) x1 x4 x3 0 u_2)) ∧ (¬ r_3 = 0 → (wt_below_54 k (fun yx1 yx3 yx4 yu => wt_below_29 k n yx1 yx3 yx4 yu) x1 x4 x3 1 u_2)))) (u.1 24 x4.toNatClampNeg) x1 u))))
theorem kt_below_29 {X : Ev} {G : TG} {k : Int32 → TS → Prop} (C : TC X G cX6_below 10) (hG : TD G) (hret : (ev_h X).sig.returnType = some .int) (hXn : ev_n X = 5) : ∀ (n : Nat) (x1 : Int32) (x3 : Int32) (x4 : Int32) (u : TS), wt_below_29 k n x1 x3 x4 u → GK X (TP G u) 0 0 (tQ X G (tI k)) 29 [(0, .ref G.2.2.1), (1, .int x1), (3, .int x3), (4, .int x4)] [] := by
  intro n
  induction n with
  | zero => intro x1 x3 x4 u hw; exact hw.elim
  | succ n ih =>
  intro x1 x3 x4 u hw
  unfold wt_below_29 at hw
  refine gk_iload (pc := 29) C.1 3 dX6_below_29 rfl ?_
  refine gk_if_lt (pc := 31) (tgt := 62) C.1 dX6_below_31 (by decide) (fun c_1 => ?_) (fun c_1 => ?_)
  · replace hw := hw.1 c_1
    refine gk_iload_n (pc := 62) C.1 2 dX6_below_62 rfl rfl ?_
    exact tk_iret (pc := 63) C hret dX6_below_63 hw
  · replace hw := hw.2 c_1
    refine gk_iload_n (pc := 34) C.1 2 dX6_below_34 rfl rfl ?_
    refine gk_aload_n (pc := 35) C.1 0 dX6_below_35 rfl rfl ?_
    refine tk_getA (pc := 36) C (k := 24) (by decide) (by decide) q2145 rfl dX6_below_36 ?_
    refine gk_iload (pc := 39) C.1 3 dX6_below_39 rfl ?_
    obtain ⟨hi, hw⟩ := hw
    refine tk_ald (pc := 41) C (k := 24) (by decide) hi dX6_below_41 ?_
    refine gk_iload_n (pc := 42) C.1 1 dX6_below_42 rfl rfl ?_
    refine tk_callS (pc := 43) (y := yX6_isBelow) (n := 2) (As := [.int (u.1 24 x4.toNatClampNeg), .int x1]) (rest := [.int x3]) C (wk_isBelow (ev_l X) hG hw) q2525 q2526 q2527 ⟨rfl, by decide +kernel⟩ ⟨by decide, by decide⟩ rfl rfl (Nat.le_of_ble_eq_true rfl) dX6_below_43 (fun v9 u_2 hp => ?_)
    obtain ⟨r_3, rfl, hw⟩ := hp
    refine GK.at (p2 := 46) rfl ?_
    refine gk_if_eq (pc := 46) (tgt := 53) C.1 dX6_below_46 (by decide) (fun c_4 => ?_) (fun c_4 => ?_)
    · replace hw := hw.1 c_4
      refine gk_iconst (pc := 53) (v := 0) C.1 dX6_below_53 (by decide) ?_
      refine GK.sub (lv' := [(0, .ref G.2.2.1), (1, .int x1), (4, .int x4)]) [0, 1, 3] rfl ?_
      exact kt_below_54 C hG hret hXn ih _ _ _ _ _ hw
    · replace hw := hw.2 c_4
      refine gk_iconst (pc := 49) (v := 1) C.1 dX6_below_49 (by decide) ?_
      refine gk_goto (pc := 50) (tgt := 54) C.1 dX6_below_50 (by decide) ?_
      refine GK.sub (lv' := [(0, .ref G.2.2.1), (1, .int x1), (4, .int x4)]) [0, 1, 3] rfl ?_
      exact kt_below_54 C hG hret hXn ih _ _ _ _ _ hw
def wt_below (k : Int32 → TS → Prop) (x1 : Int32) (u : TS) : Prop := wt_bound (fun r_2 u_1 => ((r_2 = 0 → (wt_manyNow (fun r_5 u_4 => ∀ x_6 : Int32, x_6 = r_5 - 1 → (∃ fu : Nat, wt_below_29 k fu x1 0 x_6 u_4)) u_1)) ∧ (¬ r_2 = 0 → (wt_no (fun r_8 u_7 => k r_8 u_7) r_2 u_1)))) x1 0 99999 u
theorem wk_below (l : Launch) {G : TG} (hG : TD G) {k : Int32 → TS → Prop} {x1 : Int32} {u : TS} (hw : wt_below k x1 u) : TMet l yX6_below cX6_below 5 (some .int) 10 G [.ref G.2.2.1, .int x1] u (tI k) := by
  refine tk_met hG rfl (Nat.le_of_ble_eq_true rfl) (fun X hXl hXn hret C => ?_)
  subst hXl
  unfold wt_below at hw
  refine GK.sub (lv' := [(0, .ref G.2.2.1), (1, .int x1)]) [0, 1] rfl ?_
  refine gk_iload_n (pc := 0) C.1 1 dX6_below_0 rfl rfl ?_
  refine gk_iconst (pc := 1) (v := 0) C.1 dX6_below_1 (by decide) ?_
  refine gk_ldcw (pc := 2) (v := 99999) C.1 q2579 dX6_below_2 ?_
  refine tk_callS (pc := 5) (y := yX6_bound) (n := 3) (As := [.int x1, .int 0, .int 99999]) (rest := []) C (wk_bound (ev_l X) hG hw) q2288 q2289 q2290 ⟨rfl, by decide +kernel⟩ ⟨by decide, by decide⟩ rfl rfl (Nat.le_of_ble_eq_true rfl) dX6_below_5 (fun v9 u_1 hp => ?_)
  obtain ⟨r_2, rfl, hw⟩ := hp
  refine GK.at (p2 := 8) rfl ?_
  refine gk_istore_n (pc := 8) (lv' := [(2, Value.int r_2), (0, Value.ref G.2.2.1), (1, Value.int x1)]) C.1 dX6_below_8 rfl (by rw [hXn]; decide) rfl ?_
  refine gk_iload_n (pc := 9) C.1 0 dX6_below_9 rfl rfl ?_
  refine gk_if_eq (pc := 10) (tgt := 19) C.1 dX6_below_10 (by decide) (fun c_3 => ?_) (fun c_3 => ?_)
  · replace hw := hw.1 c_3
    refine gk_iconst (pc := 19) (v := 0) C.1 dX6_below_19 (by decide) ?_
    refine gk_istore_n (pc := 20) (lv' := [(3, Value.int 0), (2, Value.int r_2), (0, Value.ref G.2.2.1), (1, Value.int x1)]) C.1 dX6_below_20 rfl (by rw [hXn]; decide) rfl ?_
    refine gk_aload_n (pc := 21) C.1 2 dX6_below_21 rfl rfl ?_
    refine tk_callV (pc := 22) (y := yX6_manyNow) (n := 0) (As := []) (rest := []) C (wk_manyNow (ev_l X) hG hw) q2457 q2459 qs97 q2460 ⟨rfl, by decide +kernel⟩ ⟨by decide, by decide⟩ rfl rfl (Nat.le_of_ble_eq_true rfl) dX6_below_22 (fun v9 u_4 hp => ?_)
    obtain ⟨r_5, rfl, hw⟩ := hp
    refine GK.at (p2 := 25) rfl ?_
    refine gk_iconst (pc := 25) (v := 1) C.1 dX6_below_25 (by decide) ?_
    refine gk_isub (pc := 26) C.1 dX6_below_26 ?_
    obtain ⟨x_6, ex_6⟩ : ∃ z : Int32, z = r_5 - 1 := ⟨_, rfl⟩
    rw [← ex_6]
    replace hw := hw x_6 ex_6
    refine gk_istore (pc := 27) (lv' := [(4, Value.int x_6), (3, Value.int 0), (2, Value.int r_2), (0, Value.ref G.2.2.1), (1, Value.int x1)]) C.1 dX6_below_27 (by rw [hXn]; decide) rfl ?_
    refine GK.sub (lv' := [(0, .ref G.2.2.1), (1, .int x1), (3, .int 0), (4, .int x_6)]) [3, 4, 1, 0] rfl ?_
    obtain ⟨n9, hw⟩ := hw
    exact kt_below_29 C hG hret hXn  n9 _ _ _ _ hw
  · replace hw := hw.2 c_3
    refine gk_aload_n (pc := 13) C.1 1 dX6_below_13 rfl rfl ?_
    refine gk_iload_n (pc := 14) C.1 0 dX6_below_14 rfl rfl ?_
    refine tk_callV (pc := 15) (y := yX6_no) (n := 1) (As := [.int r_2]) (rest := []) C (wk_no (ev_l X) hG hw) q2291 q2293 qs66 q2294 ⟨rfl, by decide +kernel⟩ ⟨by decide, by decide⟩ rfl rfl (Nat.le_of_ble_eq_true rfl) dX6_below_15 (fun v9 u_7 hp => ?_)
    obtain ⟨r_8, rfl, hw⟩ := hp
    refine GK.at (p2 := 18) rfl ?_
    exact tk_iret (pc := 18) C hret dX6_below_18 hw
/-! draw(I)I -/
def wt_draw (k : Int32 → TS → Prop) (x1 : Int32) (u : TS) : Prop := ∀ u_1 : TS, u_1 = tpI u 53 (((u.2 53) * 1664525) + 1013904223) → (¬ x1 = 0 ∧ (k ((((u_1.2 53) &&& 2147483647) / 256) - (((u_1.2 53) &&& 2147483647) / 256) / x1 * x1) u_1))
theorem wk_draw (l : Launch) {G : TG} (hG : TD G) {k : Int32 → TS → Prop} {x1 : Int32} {u : TS} (hw : wt_draw k x1 u) : TMet l yX6_draw cX6_draw 2 (some .int) 1 G [.ref G.2.2.1, .int x1] u (tI k) := by
  refine tk_met hG rfl (Nat.le_of_ble_eq_true rfl) (fun X hXl hXn hret C => ?_)
  subst hXl
  unfold wt_draw at hw
  refine GK.sub (lv' := [(0, .ref G.2.2.1), (1, .int x1)]) [0, 1] rfl ?_
  refine gk_aload_n (pc := 0) C.1 0 dX6_draw_0 rfl rfl ?_
  refine gk_aload_n (pc := 1) C.1 0 dX6_draw_1 rfl rfl ?_
  refine tk_getI (pc := 2) C (k := 53) (by decide) (by decide) q2174 rfl dX6_draw_2 ?_
  refine gk_ldcw (pc := 5) (v := 1664525) C.1 q2707 dX6_draw_5 ?_
  refine gk_imul (pc := 8) C.1 dX6_draw_8 ?_
  refine gk_ldcw (pc := 9) (v := 1013904223) C.1 q2708 dX6_draw_9 ?_
  refine gk_iadd (pc := 12) C.1 dX6_draw_12 ?_
  refine tk_putI (pc := 13) C (k := 53) (by decide) (by decide) q2174 rfl rfl (ty := .int) rfl rfl rfl dX6_draw_13 (fun u_1 eu_1 => ?_)
  replace hw := hw u_1 eu_1
  refine gk_aload_n (pc := 16) C.1 0 dX6_draw_16 rfl rfl ?_
  refine tk_getI (pc := 17) C (k := 53) (by decide) (by decide) q2174 rfl dX6_draw_17 ?_
  refine gk_ldcw (pc := 20) (v := 2147483647) C.1 q2709 dX6_draw_20 ?_
  refine gk_iand (pc := 23) C.1 dX6_draw_23 ?_
  refine gk_sipush (pc := 24) (v := 256) C.1 dX6_draw_24 (by decide) ?_
  refine gk_idiv (pc := 27) C.1 dX6_draw_27 (by decide) ?_
  refine gk_iload_n (pc := 28) C.1 1 dX6_draw_28 rfl rfl ?_
  obtain ⟨hne, hw⟩ := hw
  refine gk_irem (pc := 29) C.1 dX6_draw_29 hne ?_
  exact tk_iret (pc := 30) C hret dX6_draw_30 hw
/-! isHolding(I)Z -/
def wt_isHolding_20 (k : Int32 → TS → Prop)  (u : TS) : Prop := k 1 u
theorem kt_isHolding_20 {X : Ev} {G : TG} {k : Int32 → TS → Prop} (C : TC X G cX6_isHolding 1) (hG : TD G) (hret : (ev_h X).sig.returnType = some .boolean) (hXn : ev_n X = 2) : ∀  (u : TS), wt_isHolding_20 k  u → GK X (TP G u) 0 0 (tQ X G (tI k)) 20 [] [] := by
  intro  u hw
  unfold wt_isHolding_20 at hw
  refine gk_iconst (pc := 20) (v := 1) C.1 dX6_isHolding_20 (by decide) ?_
  refine gk_goto (pc := 21) (tgt := 25) C.1 dX6_isHolding_21 (by decide) ?_
  exact tk_zret (pc := 25) C hret dX6_isHolding_25 bz1 hw
def wt_isHolding (k : Int32 → TS → Prop) (x1 : Int32) (u : TS) : Prop := vp_in x1 21 ∧ ((((u.1 1 x1.toNatClampNeg) = 2 → (wt_isHolding_20 k u)) ∧ (¬ (u.1 1 x1.toNatClampNeg) = 2 → (vp_in x1 21 ∧ (((¬ (u.1 1 x1.toNatClampNeg) = 3 → (k 0 u)) ∧ ((u.1 1 x1.toNatClampNeg) = 3 → (wt_isHolding_20 k u))))))))
theorem wk_isHolding (l : Launch) {G : TG} (hG : TD G) {k : Int32 → TS → Prop} {x1 : Int32} {u : TS} (hw : wt_isHolding k x1 u) : TMet l yX6_isHolding cX6_isHolding 2 (some .boolean) 1 G [.ref G.2.2.1, .int x1] u (tI k) := by
  refine tk_met hG rfl (Nat.le_of_ble_eq_true rfl) (fun X hXl hXn hret C => ?_)
  subst hXl
  unfold wt_isHolding at hw
  refine GK.sub (lv' := [(0, .ref G.2.2.1), (1, .int x1)]) [0, 1] rfl ?_
  refine gk_aload_n (pc := 0) C.1 0 dX6_isHolding_0 rfl rfl ?_
  refine tk_getA (pc := 1) C (k := 1) (by decide) (by decide) q2122 rfl dX6_isHolding_1 ?_
  refine gk_iload_n (pc := 4) C.1 1 dX6_isHolding_4 rfl rfl ?_
  obtain ⟨hi, hw⟩ := hw
  refine tk_ald (pc := 5) C (k := 1) (by decide) hi dX6_isHolding_5 ?_
  refine gk_iconst (pc := 6) (v := 2) C.1 dX6_isHolding_6 (by decide) ?_
  refine gk_icmp_eq (pc := 7) (tgt := 20) C.1 dX6_isHolding_7 (by decide) (fun c_1 => ?_) (fun c_1 => ?_)
  · replace hw := hw.1 c_1
    refine GK.sub (lv' := []) [] rfl ?_
    exact kt_isHolding_20 C hG hret hXn   _ hw
  · replace hw := hw.2 c_1
    refine gk_aload_n (pc := 10) C.1 0 dX6_isHolding_10 rfl rfl ?_
    refine tk_getA (pc := 11) C (k := 1) (by decide) (by decide) q2122 rfl dX6_isHolding_11 ?_
    refine gk_iload_n (pc := 14) C.1 1 dX6_isHolding_14 rfl rfl ?_
    obtain ⟨hi, hw⟩ := hw
    refine tk_ald (pc := 15) C (k := 1) (by decide) hi dX6_isHolding_15 ?_
    refine gk_iconst (pc := 16) (v := 3) C.1 dX6_isHolding_16 (by decide) ?_
    refine gk_icmp_ne (pc := 17) (tgt := 24) C.1 dX6_isHolding_17 (by decide) (fun c_2 => ?_) (fun c_2 => ?_)
    · replace hw := hw.1 c_2
      refine gk_iconst (pc := 24) (v := 0) C.1 dX6_isHolding_24 (by decide) ?_
      exact tk_zret (pc := 25) C hret dX6_isHolding_25 bz0 hw
    · replace hw := hw.2 c_2
      refine GK.sub (lv' := []) [] rfl ?_
      exact kt_isHolding_20 C hG hret hXn   _ hw
/-! many(I)I -/
def wt_many (k : Int32 → TS → Prop) (x1 : Int32) (u : TS) : Prop := wt_isHolding (fun r_2 u_1 => ((r_2 = 0 → (k 0 u_1)) ∧ (¬ r_2 = 0 → (vp_in x1 21 ∧ (k (u_1.1 2 x1.toNatClampNeg) u_1))))) x1 u
theorem wk_many (l : Launch) {G : TG} (hG : TD G) {k : Int32 → TS → Prop} {x1 : Int32} {u : TS} (hw : wt_many k x1 u) : TMet l yX6_many cX6_many 2 (some .int) 2 G [.ref G.2.2.1, .int x1] u (tI k) := by
  refine tk_met hG rfl (Nat.le_of_ble_eq_true rfl) (fun X hXl hXn hret C => ?_)
  subst hXl
  unfold wt_many at hw
  refine GK.sub (lv' := [(0, .ref G.2.2.1), (1, .int x1)]) [0, 1] rfl ?_
  refine gk_aload_n (pc := 0) C.1 0 dX6_many_0 rfl rfl ?_
  refine gk_iload_n (pc := 1) C.1 1 dX6_many_1 rfl rfl ?_
  refine tk_callV (pc := 2) (y := yX6_isHolding) (n := 1) (As := [.int x1]) (rest := []) C (wk_isHolding (ev_l X) hG hw) q2117 q2119 qs65 q2120 ⟨rfl, by decide +kernel⟩ ⟨by decide, by decide⟩ rfl rfl (Nat.le_of_ble_eq_true rfl) dX6_many_2 (fun v9 u_1 hp => ?_)
  obtain ⟨r_2, rfl, hw⟩ := hp
  refine GK.at (p2 := 5) rfl ?_
  refine gk_if_eq (pc := 5) (tgt := 17) C.1 dX6_many_5 (by decide) (fun c_3 => ?_) (fun c_3 => ?_)
  · replace hw := hw.1 c_3
    refine gk_iconst (pc := 17) (v := 0) C.1 dX6_many_17 (by decide) ?_
    exact tk_iret (pc := 18) C hret dX6_many_18 hw
  · replace hw := hw.2 c_3
    refine gk_aload_n (pc := 8) C.1 0 dX6_many_8 rfl rfl ?_
    refine tk_getA (pc := 9) C (k := 2) (by decide) (by decide) q2123 rfl dX6_many_9 ?_
    refine gk_iload_n (pc := 12) C.1 1 dX6_many_12 rfl rfl ?_
    obtain ⟨hi, hw⟩ := hw
    refine tk_ald (pc := 13) C (k := 2) (by decide) hi dX6_many_13 ?_
    refine gk_goto (pc := 14) (tgt := 18) C.1 dX6_many_14 (by decide) ?_
    exact tk_iret (pc := 18) C hret dX6_many_18 hw
/-! measures()V -/
def wt_measures_17 (k : TS → Prop) (J7 : Int32 → TS → Prop) : Nat → Int32 → Int32 → Int32 → TS → Prop
  | 0 => fun _ _ _ _ => False
  | n + 1 => fun x1 x2 x3 u => wt_many (fun r_2 u_1 => ((r_2 ≤ x3 → (vp_in x1 21 ∧ (∀ u_4 : TS, u_4 = tpA u_1 4 x1.toNatClampNeg (x2 - x1) → (∀ x_5 : Int32, x_5 = x1 + (-1) → (J7 x_5 u_4))))) ∧ (¬ r_2 ≤ x3 → (vp_in x2 21 ∧ (∀ x_6 : Int32, x_6 = x2 + (u_1.1 4 x2.toNatClampNeg) → (∀ x_7 : Int32, x_7 = x3 + 1 → (wt_measures_17 k J7 n x1 x_6 x_7 u_1))))))) x1 u
theorem kt_measures_17 {X : Ev} {G : TG} {k : TS → Prop} {J7 : Int32 → TS → Prop} (C : TC X G cX6_measures 3) (hG : TD G) (hret : (ev_h X).sig.returnType = none) (hXn : ev_n X = 4) (hJ7 : ∀ (x1 : Int32) (u : TS), J7 x1 u → GK X (TP G u) 0 0 (tQ X G (tV k)) 7 [(0, .ref G.2.2.1), (1, .int x1)] []) : ∀ (n : Nat) (x1 : Int32) (x2 : Int32) (x3 : Int32) (u : TS), wt_measures_17 k J7 n x1 x2 x3 u → GK X (TP G u) 0 0 (tQ X G (tV k)) 17 [(0, .ref G.2.2.1), (1, .int x1), (2, .int x2), (3, .int x3)] [] := by
  intro n
  induction n with
  | zero => intro x1 x2 x3 u hw; exact hw.elim
  | succ n ih =>
  intro x1 x2 x3 u hw
  unfold wt_measures_17 at hw
  refine gk_iload_n (pc := 17) C.1 3 dX6_measures_17 rfl rfl ?_
  refine gk_aload_n (pc := 18) C.1 0 dX6_measures_18 rfl rfl ?_
  refine gk_iload_n (pc := 19) C.1 1 dX6_measures_19 rfl rfl ?_
  refine tk_callV (pc := 20) (y := yX6_many) (n := 1) (As := [.int x1]) (rest := [.int x3]) C (wk_many (ev_l X) hG hw) q2113 q2115 qs64 q2116 ⟨rfl, by decide +kernel⟩ ⟨by decide, by decide⟩ rfl rfl (Nat.le_of_ble_eq_true rfl) dX6_measures_20 (fun v9 u_1 hp => ?_)
  obtain ⟨r_2, rfl, hw⟩ := hp
  refine GK.at (p2 := 23) rfl ?_
  refine gk_icmp_ge (pc := 23) (tgt := 41) C.1 dX6_measures_23 (by decide) (fun c_3 => ?_) (fun c_3 => ?_)
  · replace hw := hw.1 c_3
    refine gk_aload_n (pc := 41) C.1 0 dX6_measures_41 rfl rfl ?_
    refine tk_getA (pc := 42) C (k := 4) (by decide) (by decide) q2125 rfl dX6_measures_42 ?_
    refine gk_iload_n (pc := 45) C.1 1 dX6_measures_45 rfl rfl ?_
    refine gk_iload_n (pc := 46) C.1 2 dX6_measures_46 rfl rfl ?_
    refine gk_iload_n (pc := 47) C.1 1 dX6_measures_47 rfl rfl ?_
    refine gk_isub (pc := 48) C.1 dX6_measures_48 ?_
    obtain ⟨hi, hw⟩ := hw
    refine tk_ast (pc := 49) C (k := 4) (by decide) hi dX6_measures_49 (fun u_4 eu_4 => ?_)
    replace hw := hw u_4 eu_4
    obtain ⟨x_5, ex_5⟩ : ∃ z : Int32, z = x1 + (-1) := ⟨_, rfl⟩
    replace hw := hw x_5 ex_5
    refine gk_iinc (pc := 50) (v := x_5) (lv' := [(1, Value.int x_5), (0, Value.ref G.2.2.1), (2, Value.int x2), (3, Value.int x3)]) C.1 1 dX6_measures_50 rfl (by rw [ex_5]; rfl) (by rw [hXn]; decide) rfl ?_
    refine gk_goto (pc := 53) (tgt := 7) C.1 dX6_measures_53 (by decide) ?_
    refine GK.sub (lv' := [(0, .ref G.2.2.1), (1, .int x_5)]) [1, 0] rfl ?_
    exact hJ7 _ _ hw
  · replace hw := hw.2 c_3
    refine gk_iload_n (pc := 26) C.1 2 dX6_measures_26 rfl rfl ?_
    refine gk_aload_n (pc := 27) C.1 0 dX6_measures_27 rfl rfl ?_
    refine tk_getA (pc := 28) C (k := 4) (by decide) (by decide) q2125 rfl dX6_measures_28 ?_
    refine gk_iload_n (pc := 31) C.1 2 dX6_measures_31 rfl rfl ?_
    obtain ⟨hi, hw⟩ := hw
    refine tk_ald (pc := 32) C (k := 4) (by decide) hi dX6_measures_32 ?_
    refine gk_iadd (pc := 33) C.1 dX6_measures_33 ?_
    obtain ⟨x_6, ex_6⟩ : ∃ z : Int32, z = x2 + (u_1.1 4 x2.toNatClampNeg) := ⟨_, rfl⟩
    rw [← ex_6]
    replace hw := hw x_6 ex_6
    refine gk_istore_n (pc := 34) (lv' := [(2, Value.int x_6), (0, Value.ref G.2.2.1), (1, Value.int x1), (3, Value.int x3)]) C.1 dX6_measures_34 rfl (by rw [hXn]; decide) rfl ?_
    obtain ⟨x_7, ex_7⟩ : ∃ z : Int32, z = x3 + 1 := ⟨_, rfl⟩
    replace hw := hw x_7 ex_7
    refine gk_iinc (pc := 35) (v := x_7) (lv' := [(3, Value.int x_7), (2, Value.int x_6), (0, Value.ref G.2.2.1), (1, Value.int x1)]) C.1 3 dX6_measures_35 rfl (by rw [ex_7]; rfl) (by rw [hXn]; decide) rfl ?_
    refine gk_goto (pc := 38) (tgt := 17) C.1 dX6_measures_38 (by decide) ?_
    refine GK.sub (lv' := [(0, .ref G.2.2.1), (1, .int x1), (2, .int x_6), (3, .int x_7)]) [2, 3, 1, 0] rfl ?_
    exact ih _ _ _ _ hw
def wt_measures_125 (k : TS → Prop) (J65 : Int32 → TS → Prop) (J79 : Int32 → Int32 → Int32 → TS → Prop) (x1 : Int32) (x2 : Int32) (x3 : Int32) (s1 : Int32) (s2 : Int32) (s3 : Int32) (u : TS) : Prop := vp_in s1 21 ∧ (∀ u_1 : TS, u_1 = tpA u 5 s1.toNatClampNeg (s2 + s3) → (vp_in x2 21 ∧ (∀ x_2 : Int32, x_2 = x2 + (u_1.1 4 x2.toNatClampNeg) → (∀ x_3 : Int32, x_3 = x3 + 1 → (J79 x1 x_2 x_3 u_1)))))
theorem kt_measures_125 {X : Ev} {G : TG} {k : TS → Prop} {J65 : Int32 → TS → Prop} {J79 : Int32 → Int32 → Int32 → TS → Prop} (C : TC X G cX6_measures 3) (hG : TD G) (hret : (ev_h X).sig.returnType = none) (hXn : ev_n X = 4) (hJ65 : ∀ (x1 : Int32) (u : TS), J65 x1 u → GK X (TP G u) 0 0 (tQ X G (tV k)) 65 [(0, .ref G.2.2.1), (1, .int x1)] []) (hJ79 : ∀ (x1 : Int32) (x2 : Int32) (x3 : Int32) (u : TS), J79 x1 x2 x3 u → GK X (TP G u) 0 0 (tQ X G (tV k)) 79 [(0, .ref G.2.2.1), (1, .int x1), (2, .int x2), (3, .int x3)] []) : ∀ (x1 : Int32) (x2 : Int32) (x3 : Int32) (s1 : Int32) (s2 : Int32) (s3 : Int32) (u : TS), wt_measures_125 k J65 J79 x1 x2 x3 s1 s2 s3 u → GK X (TP G u) 0 0 (tQ X G (tV k)) 125 [(0, .ref G.2.2.1), (1, .int x1), (2, .int x2), (3, .int x3)] [.int s3, .int s2, .int s1, .ref (G.2.2.2 5)] := by
  intro x1 x2 x3 s1 s2 s3 u hw
  unfold wt_measures_125 at hw
  refine gk_iadd (pc := 125) C.1 dX6_measures_125 ?_
  obtain ⟨hi, hw⟩ := hw
  refine tk_ast (pc := 126) C (k := 5) (by decide) hi dX6_measures_126 (fun u_1 eu_1 => ?_)
  replace hw := hw u_1 eu_1
  refine gk_iload_n (pc := 127) C.1 2 dX6_measures_127 rfl rfl ?_
  refine gk_aload_n (pc := 128) C.1 0 dX6_measures_128 rfl rfl ?_
  refine tk_getA (pc := 129) C (k := 4) (by decide) (by decide) q2125 rfl dX6_measures_129 ?_
  refine gk_iload_n (pc := 132) C.1 2 dX6_measures_132 rfl rfl ?_
  obtain ⟨hi, hw⟩ := hw
  refine tk_ald (pc := 133) C (k := 4) (by decide) hi dX6_measures_133 ?_
  refine gk_iadd (pc := 134) C.1 dX6_measures_134 ?_
  obtain ⟨x_2, ex_2⟩ : ∃ z : Int32, z = x2 + (u_1.1 4 x2.toNatClampNeg) := ⟨_, rfl⟩
  rw [← ex_2]
  replace hw := hw x_2 ex_2
  refine gk_istore_n (pc := 135) (lv' := [(2, Value.int x_2), (0, Value.ref G.2.2.1), (1, Value.int x1), (3, Value.int x3)]) C.1 dX6_measures_135 rfl (by rw [hXn]; decide) rfl ?_
  obtain ⟨x_3, ex_3⟩ : ∃ z : Int32, z = x3 + 1 := ⟨_, rfl⟩
  replace hw := hw x_3 ex_3
  refine gk_iinc (pc := 136) (v := x_3) (lv' := [(3, Value.int x_3), (2, Value.int x_2), (0, Value.ref G.2.2.1), (1, Value.int x1)]) C.1 3 dX6_measures_136 rfl (by rw [ex_3]; rfl) (by rw [hXn]; decide) rfl ?_
  refine gk_goto (pc := 139) (tgt := 79) C.1 dX6_measures_139 (by decide) ?_
  refine GK.sub (lv' := [(0, .ref G.2.2.1), (1, .int x1), (2, .int x_2), (3, .int x_3)]) [2, 3, 1, 0] rfl ?_
  exact hJ79 _ _ _ _ hw
def wt_measures_79 (k : TS → Prop) (J65 : Int32 → TS → Prop) : Nat → Int32 → Int32 → Int32 → TS → Prop
  | 0 => fun _ _ _ _ => False
  | n + 1 => fun x1 x2 x3 u => wt_many (fun r_2 u_1 => ((r_2 ≤ x3 → (∀ x_4 : Int32, x_4 = x1 + 1 → (J65 x_4 u_1))) ∧ (¬ r_2 ≤ x3 → (vp_in x1 21 ∧ (vp_in x1 21 ∧ (((¬ (u_1.1 1 x1.toNatClampNeg) = 3 → (vp_in x2 21 ∧ (wt_measures_125 k J65 (fun yx1 yx2 yx3 yu => wt_measures_79 k J65 n yx1 yx2 yx3 yu) x1 x2 x3 x2 (10 * (u_1.1 5 x1.toNatClampNeg)) (u_1.1 3 x2.toNatClampNeg) u_1))) ∧ ((u_1.1 1 x1.toNatClampNeg) = 3 → (wt_measures_125 k J65 (fun yx1 yx2 yx3 yu => wt_measures_79 k J65 n yx1 yx2 yx3 yu) x1 x2 x3 x2 (10 * (u_1.1 5 x1.toNatClampNeg)) (6 + x3) u_1))))))))) x1 u
theorem kt_measures_79 {X : Ev} {G : TG} {k : TS → Prop} {J65 : Int32 → TS → Prop} (C : TC X G cX6_measures 3) (hG : TD G) (hret : (ev_h X).sig.returnType = none) (hXn : ev_n X = 4) (hJ65 : ∀ (x1 : Int32) (u : TS), J65 x1 u → GK X (TP G u) 0 0 (tQ X G (tV k)) 65 [(0, .ref G.2.2.1), (1, .int x1)] []) : ∀ (n : Nat) (x1 : Int32) (x2 : Int32) (x3 : Int32) (u : TS), wt_measures_79 k J65 n x1 x2 x3 u → GK X (TP G u) 0 0 (tQ X G (tV k)) 79 [(0, .ref G.2.2.1), (1, .int x1), (2, .int x2), (3, .int x3)] [] := by
  intro n
  induction n with
  | zero => intro x1 x2 x3 u hw; exact hw.elim
  | succ n ih =>
  intro x1 x2 x3 u hw
  unfold wt_measures_79 at hw
  refine gk_iload_n (pc := 79) C.1 3 dX6_measures_79 rfl rfl ?_
  refine gk_aload_n (pc := 80) C.1 0 dX6_measures_80 rfl rfl ?_
  refine gk_iload_n (pc := 81) C.1 1 dX6_measures_81 rfl rfl ?_
  refine tk_callV (pc := 82) (y := yX6_many) (n := 1) (As := [.int x1]) (rest := [.int x3]) C (wk_many (ev_l X) hG hw) q2113 q2115 qs64 q2116 ⟨rfl, by decide +kernel⟩ ⟨by decide, by decide⟩ rfl rfl (Nat.le_of_ble_eq_true rfl) dX6_measures_82 (fun v9 u_1 hp => ?_)
  obtain ⟨r_2, rfl, hw⟩ := hp
  refine GK.at (p2 := 85) rfl ?_
  refine gk_icmp_ge (pc := 85) (tgt := 142) C.1 dX6_measures_85 (by decide) (fun c_3 => ?_) (fun c_3 => ?_)
  · replace hw := hw.1 c_3
    obtain ⟨x_4, ex_4⟩ : ∃ z : Int32, z = x1 + 1 := ⟨_, rfl⟩
    replace hw := hw x_4 ex_4
    refine gk_iinc (pc := 142) (v := x_4) (lv' := [(1, Value.int x_4), (0, Value.ref G.2.2.1), (2, Value.int x2), (3, Value.int x3)]) C.1 1 dX6_measures_142 rfl (by rw [ex_4]; rfl) (by rw [hXn]; decide) rfl ?_
    refine gk_goto (pc := 145) (tgt := 65) C.1 dX6_measures_145 (by decide) ?_
    refine GK.sub (lv' := [(0, .ref G.2.2.1), (1, .int x_4)]) [1, 0] rfl ?_
    exact hJ65 _ _ hw
  · replace hw := hw.2 c_3
    refine gk_aload_n (pc := 88) C.1 0 dX6_measures_88 rfl rfl ?_
    refine tk_getA (pc := 89) C (k := 5) (by decide) (by decide) q2126 rfl dX6_measures_89 ?_
    refine gk_iload_n (pc := 92) C.1 2 dX6_measures_92 rfl rfl ?_
    refine gk_bipush (pc := 93) (v := 10) C.1 dX6_measures_93 (by decide) ?_
    refine gk_aload_n (pc := 95) C.1 0 dX6_measures_95 rfl rfl ?_
    refine tk_getA (pc := 96) C (k := 5) (by decide) (by decide) q2126 rfl dX6_measures_96 ?_
    refine gk_iload_n (pc := 99) C.1 1 dX6_measures_99 rfl rfl ?_
    obtain ⟨hi, hw⟩ := hw
    refine tk_ald (pc := 100) C (k := 5) (by decide) hi dX6_measures_100 ?_
    refine gk_imul (pc := 101) C.1 dX6_measures_101 ?_
    refine gk_aload_n (pc := 102) C.1 0 dX6_measures_102 rfl rfl ?_
    refine tk_getA (pc := 103) C (k := 1) (by decide) (by decide) q2122 rfl dX6_measures_103 ?_
    refine gk_iload_n (pc := 106) C.1 1 dX6_measures_106 rfl rfl ?_
    obtain ⟨hi, hw⟩ := hw
    refine tk_ald (pc := 107) C (k := 1) (by decide) hi dX6_measures_107 ?_
    refine gk_iconst (pc := 108) (v := 3) C.1 dX6_measures_108 (by decide) ?_
    refine gk_icmp_ne (pc := 109) (tgt := 119) C.1 dX6_measures_109 (by decide) (fun c_5 => ?_) (fun c_5 => ?_)
    · replace hw := hw.1 c_5
      refine gk_aload_n (pc := 119) C.1 0 dX6_measures_119 rfl rfl ?_
      refine tk_getA (pc := 120) C (k := 3) (by decide) (by decide) q2124 rfl dX6_measures_120 ?_
      refine gk_iload_n (pc := 123) C.1 2 dX6_measures_123 rfl rfl ?_
      obtain ⟨hi, hw⟩ := hw
      refine tk_ald (pc := 124) C (k := 3) (by decide) hi dX6_measures_124 ?_
      refine GK.sub (lv' := [(0, .ref G.2.2.1), (1, .int x1), (2, .int x2), (3, .int x3)]) [0, 1, 2, 3] rfl ?_
      exact kt_measures_125 C hG hret hXn hJ65 ih _ _ _ _ _ _ _ hw
    · replace hw := hw.2 c_5
      refine gk_bipush (pc := 112) (v := 6) C.1 dX6_measures_112 (by decide) ?_
      refine gk_iload_n (pc := 114) C.1 3 dX6_measures_114 rfl rfl ?_
      refine gk_iadd (pc := 115) C.1 dX6_measures_115 ?_
      refine gk_goto (pc := 116) (tgt := 125) C.1 dX6_measures_116 (by decide) ?_
      refine GK.sub (lv' := [(0, .ref G.2.2.1), (1, .int x1), (2, .int x2), (3, .int x3)]) [0, 1, 2, 3] rfl ?_
      exact kt_measures_125 C hG hret hXn hJ65 ih _ _ _ _ _ _ _ hw
def wt_measures_65 (k : TS → Prop) : Nat → Int32 → TS → Prop
  | 0 => fun _ _ => False
  | n + 1 => fun x1 u => (((u.2 6) ≤ x1 → (k u)) ∧ (¬ (u.2 6) ≤ x1 → (∀ x_2 : Int32, x_2 = x1 + 1 → (∃ fu : Nat, wt_measures_79 k (fun yx1 yu => wt_measures_65 k n yx1 yu) fu x1 x_2 0 u))))
theorem kt_measures_65 {X : Ev} {G : TG} {k : TS → Prop} (C : TC X G cX6_measures 3) (hG : TD G) (hret : (ev_h X).sig.returnType = none) (hXn : ev_n X = 4) : ∀ (n : Nat) (x1 : Int32) (u : TS), wt_measures_65 k n x1 u → GK X (TP G u) 0 0 (tQ X G (tV k)) 65 [(0, .ref G.2.2.1), (1, .int x1)] [] := by
  intro n
  induction n with
  | zero => intro x1 u hw; exact hw.elim
  | succ n ih =>
  intro x1 u hw
  unfold wt_measures_65 at hw
  refine gk_iload_n (pc := 65) C.1 1 dX6_measures_65 rfl rfl ?_
  refine gk_aload_n (pc := 66) C.1 0 dX6_measures_66 rfl rfl ?_
  refine tk_getI (pc := 67) C (k := 6) (by decide) (by decide) q2127 rfl dX6_measures_67 ?_
  refine gk_icmp_ge (pc := 70) (tgt := 148) C.1 dX6_measures_70 (by decide) (fun c_1 => ?_) (fun c_1 => ?_)
  · replace hw := hw.1 c_1
    exact tk_vret (pc := 148) C hret dX6_measures_148 hw
  · replace hw := hw.2 c_1
    refine gk_iload_n (pc := 73) C.1 1 dX6_measures_73 rfl rfl ?_
    refine gk_iconst (pc := 74) (v := 1) C.1 dX6_measures_74 (by decide) ?_
    refine gk_iadd (pc := 75) C.1 dX6_measures_75 ?_
    obtain ⟨x_2, ex_2⟩ : ∃ z : Int32, z = x1 + 1 := ⟨_, rfl⟩
    rw [← ex_2]
    replace hw := hw x_2 ex_2
    refine gk_istore_n (pc := 76) (lv' := [(2, Value.int x_2), (0, Value.ref G.2.2.1), (1, Value.int x1)]) C.1 dX6_measures_76 rfl (by rw [hXn]; decide) rfl ?_
    refine gk_iconst (pc := 77) (v := 0) C.1 dX6_measures_77 (by decide) ?_
    refine gk_istore_n (pc := 78) (lv' := [(3, Value.int 0), (2, Value.int x_2), (0, Value.ref G.2.2.1), (1, Value.int x1)]) C.1 dX6_measures_78 rfl (by rw [hXn]; decide) rfl ?_
    refine GK.sub (lv' := [(0, .ref G.2.2.1), (1, .int x1), (2, .int x_2), (3, .int 0)]) [2, 3, 1, 0] rfl ?_
    obtain ⟨n9, hw⟩ := hw
    exact kt_measures_79 C hG hret hXn ih n9 _ _ _ _ hw
def wt_measures_7 (k : TS → Prop) : Nat → Int32 → TS → Prop
  | 0 => fun _ _ => False
  | n + 1 => fun x1 u => ((x1 < 0 → (vp_in 0 21 ∧ (∀ u_2 : TS, u_2 = tpA u 5 (0 : Int32).toNatClampNeg 0 → (∃ fu : Nat, wt_measures_65 k fu 0 u_2)))) ∧ (¬ x1 < 0 → (∀ x_3 : Int32, x_3 = x1 + 1 → (∃ fu : Nat, wt_measures_17 k (fun yx1 yu => wt_measures_7 k n yx1 yu) fu x1 x_3 0 u))))
theorem kt_measures_7 {X : Ev} {G : TG} {k : TS → Prop} (C : TC X G cX6_measures 3) (hG : TD G) (hret : (ev_h X).sig.returnType = none) (hXn : ev_n X = 4) : ∀ (n : Nat) (x1 : Int32) (u : TS), wt_measures_7 k n x1 u → GK X (TP G u) 0 0 (tQ X G (tV k)) 7 [(0, .ref G.2.2.1), (1, .int x1)] [] := by
  intro n
  induction n with
  | zero => intro x1 u hw; exact hw.elim
  | succ n ih =>
  intro x1 u hw
  unfold wt_measures_7 at hw
  refine gk_iload_n (pc := 7) C.1 1 dX6_measures_7 rfl rfl ?_
  refine gk_if_lt (pc := 8) (tgt := 56) C.1 dX6_measures_8 (by decide) (fun c_1 => ?_) (fun c_1 => ?_)
  · replace hw := hw.1 c_1
    refine gk_aload_n (pc := 56) C.1 0 dX6_measures_56 rfl rfl ?_
    refine tk_getA (pc := 57) C (k := 5) (by decide) (by decide) q2126 rfl dX6_measures_57 ?_
    refine gk_iconst (pc := 60) (v := 0) C.1 dX6_measures_60 (by decide) ?_
    refine gk_iconst (pc := 61) (v := 0) C.1 dX6_measures_61 (by decide) ?_
    obtain ⟨hi, hw⟩ := hw
    refine tk_ast (pc := 62) C (k := 5) (by decide) hi dX6_measures_62 (fun u_2 eu_2 => ?_)
    replace hw := hw u_2 eu_2
    refine gk_iconst (pc := 63) (v := 0) C.1 dX6_measures_63 (by decide) ?_
    refine gk_istore_n (pc := 64) (lv' := [(1, Value.int 0), (0, Value.ref G.2.2.1)]) C.1 dX6_measures_64 rfl (by rw [hXn]; decide) rfl ?_
    refine GK.sub (lv' := [(0, .ref G.2.2.1), (1, .int 0)]) [1, 0] rfl ?_
    obtain ⟨n9, hw⟩ := hw
    exact kt_measures_65 C hG hret hXn  n9 _ _ hw
  · replace hw := hw.2 c_1
    refine gk_iload_n (pc := 11) C.1 1 dX6_measures_11 rfl rfl ?_
    refine gk_iconst (pc := 12) (v := 1) C.1 dX6_measures_12 (by decide) ?_
    refine gk_iadd (pc := 13) C.1 dX6_measures_13 ?_
    obtain ⟨x_3, ex_3⟩ : ∃ z : Int32, z = x1 + 1 := ⟨_, rfl⟩
    rw [← ex_3]
    replace hw := hw x_3 ex_3
    refine gk_istore_n (pc := 14) (lv' := [(2, Value.int x_3), (0, Value.ref G.2.2.1), (1, Value.int x1)]) C.1 dX6_measures_14 rfl (by rw [hXn]; decide) rfl ?_
    refine gk_iconst (pc := 15) (v := 0) C.1 dX6_measures_15 (by decide) ?_
    refine gk_istore_n (pc := 16) (lv' := [(3, Value.int 0), (2, Value.int x_3), (0, Value.ref G.2.2.1), (1, Value.int x1)]) C.1 dX6_measures_16 rfl (by rw [hXn]; decide) rfl ?_
    refine GK.sub (lv' := [(0, .ref G.2.2.1), (1, .int x1), (2, .int x_3), (3, .int 0)]) [2, 3, 1, 0] rfl ?_
    obtain ⟨n9, hw⟩ := hw
    exact kt_measures_17 C hG hret hXn ih n9 _ _ _ _ hw
def wt_measures (k : TS → Prop) (u : TS) : Prop := ∀ x_1 : Int32, x_1 = (u.2 6) - 1 → (∃ fu : Nat, wt_measures_7 k fu x_1 u)
theorem wk_measures (l : Launch) {G : TG} (hG : TD G) {k : TS → Prop} {u : TS} (hw : wt_measures k  u) : TMet l yX6_measures cX6_measures 4 (none) 3 G [.ref G.2.2.1] u (tV k) := by
  refine tk_met hG rfl (Nat.le_of_ble_eq_true rfl) (fun X hXl hXn hret C => ?_)
  subst hXl
  unfold wt_measures at hw
  refine GK.sub (lv' := [(0, .ref G.2.2.1)]) [0] rfl ?_
  refine gk_aload_n (pc := 0) C.1 0 dX6_measures_0 rfl rfl ?_
  refine tk_getI (pc := 1) C (k := 6) (by decide) (by decide) q2127 rfl dX6_measures_1 ?_
  refine gk_iconst (pc := 4) (v := 1) C.1 dX6_measures_4 (by decide) ?_
  refine gk_isub (pc := 5) C.1 dX6_measures_5 ?_
  obtain ⟨x_1, ex_1⟩ : ∃ z : Int32, z = (u.2 6) - 1 := ⟨_, rfl⟩
  rw [← ex_1]
  replace hw := hw x_1 ex_1
  refine gk_istore_n (pc := 6) (lv' := [(1, Value.int x_1), (0, Value.ref G.2.2.1)]) C.1 dX6_measures_6 rfl (by rw [hXn]; decide) rfl ?_
  refine GK.sub (lv' := [(0, .ref G.2.2.1), (1, .int x_1)]) [1, 0] rfl ?_
  obtain ⟨n9, hw⟩ := hw
  exact kt_measures_7 C hG hret hXn  n9 _ _ hw
/-! takesOut(II)V -/
def wt_takesOut_12 (k : TS → Prop) : Nat → Int32 → Int32 → TS → Prop
  | 0 => fun _ _ _ => False
  | n + 1 => fun x2 x3 u => (((u.2 6) ≤ x3 → (k u)) ∧ (¬ (u.2 6) ≤ x3 → (vp_in (x3 + x2) 21 ∧ (vp_in x3 21 ∧ (∀ u_2 : TS, u_2 = tpA u 1 x3.toNatClampNeg (u.1 1 (x3 + x2).toNatClampNeg) → (vp_in (x3 + x2) 21 ∧ (vp_in x3 21 ∧ (∀ u_3 : TS, u_3 = tpA u_2 2 x3.toNatClampNeg (u_2.1 2 (x3 + x2).toNatClampNeg) → (vp_in (x3 + x2) 21 ∧ (vp_in x3 21 ∧ (∀ u_4 : TS, u_4 = tpA u_3 3 x3.toNatClampNeg (u_3.1 3 (x3 + x2).toNatClampNeg) → (∀ x_5 : Int32, x_5 = x3 + 1 → (wt_takesOut_12 k n x2 x_5 u_4)))))))))))))
theorem kt_takesOut_12 {X : Ev} {G : TG} {k : TS → Prop} (C : TC X G cX6_takesOut 1) (hG : TD G) (hret : (ev_h X).sig.returnType = none) (hXn : ev_n X = 4) : ∀ (n : Nat) (x2 : Int32) (x3 : Int32) (u : TS), wt_takesOut_12 k n x2 x3 u → GK X (TP G u) 0 0 (tQ X G (tV k)) 12 [(0, .ref G.2.2.1), (2, .int x2), (3, .int x3)] [] := by
  intro n
  induction n with
  | zero => intro x2 x3 u hw; exact hw.elim
  | succ n ih =>
  intro x2 x3 u hw
  unfold wt_takesOut_12 at hw
  refine gk_iload_n (pc := 12) C.1 2 dX6_takesOut_12 rfl rfl ?_
  refine gk_aload_n (pc := 13) C.1 0 dX6_takesOut_13 rfl rfl ?_
  refine tk_getI (pc := 14) C (k := 6) (by decide) (by decide) q2127 rfl dX6_takesOut_14 ?_
  refine gk_icmp_ge (pc := 17) (tgt := 68) C.1 dX6_takesOut_17 (by decide) (fun c_1 => ?_) (fun c_1 => ?_)
  · replace hw := hw.1 c_1
    exact tk_vret (pc := 68) C hret dX6_takesOut_68 hw
  · replace hw := hw.2 c_1
    refine gk_aload_n (pc := 20) C.1 0 dX6_takesOut_20 rfl rfl ?_
    refine tk_getA (pc := 21) C (k := 1) (by decide) (by decide) q2122 rfl dX6_takesOut_21 ?_
    refine gk_iload_n (pc := 24) C.1 2 dX6_takesOut_24 rfl rfl ?_
    refine gk_aload_n (pc := 25) C.1 0 dX6_takesOut_25 rfl rfl ?_
    refine tk_getA (pc := 26) C (k := 1) (by decide) (by decide) q2122 rfl dX6_takesOut_26 ?_
    refine gk_iload_n (pc := 29) C.1 2 dX6_takesOut_29 rfl rfl ?_
    refine gk_iload_n (pc := 30) C.1 1 dX6_takesOut_30 rfl rfl ?_
    refine gk_iadd (pc := 31) C.1 dX6_takesOut_31 ?_
    obtain ⟨hi, hw⟩ := hw
    refine tk_ald (pc := 32) C (k := 1) (by decide) hi dX6_takesOut_32 ?_
    obtain ⟨hi, hw⟩ := hw
    refine tk_ast (pc := 33) C (k := 1) (by decide) hi dX6_takesOut_33 (fun u_2 eu_2 => ?_)
    replace hw := hw u_2 eu_2
    refine gk_aload_n (pc := 34) C.1 0 dX6_takesOut_34 rfl rfl ?_
    refine tk_getA (pc := 35) C (k := 2) (by decide) (by decide) q2123 rfl dX6_takesOut_35 ?_
    refine gk_iload_n (pc := 38) C.1 2 dX6_takesOut_38 rfl rfl ?_
    refine gk_aload_n (pc := 39) C.1 0 dX6_takesOut_39 rfl rfl ?_
    refine tk_getA (pc := 40) C (k := 2) (by decide) (by decide) q2123 rfl dX6_takesOut_40 ?_
    refine gk_iload_n (pc := 43) C.1 2 dX6_takesOut_43 rfl rfl ?_
    refine gk_iload_n (pc := 44) C.1 1 dX6_takesOut_44 rfl rfl ?_
    refine gk_iadd (pc := 45) C.1 dX6_takesOut_45 ?_
    obtain ⟨hi, hw⟩ := hw
    refine tk_ald (pc := 46) C (k := 2) (by decide) hi dX6_takesOut_46 ?_
    obtain ⟨hi, hw⟩ := hw
    refine tk_ast (pc := 47) C (k := 2) (by decide) hi dX6_takesOut_47 (fun u_3 eu_3 => ?_)
    replace hw := hw u_3 eu_3
    refine gk_aload_n (pc := 48) C.1 0 dX6_takesOut_48 rfl rfl ?_
    refine tk_getA (pc := 49) C (k := 3) (by decide) (by decide) q2124 rfl dX6_takesOut_49 ?_
    refine gk_iload_n (pc := 52) C.1 2 dX6_takesOut_52 rfl rfl ?_
    refine gk_aload_n (pc := 53) C.1 0 dX6_takesOut_53 rfl rfl ?_
    refine tk_getA (pc := 54) C (k := 3) (by decide) (by decide) q2124 rfl dX6_takesOut_54 ?_
    refine gk_iload_n (pc := 57) C.1 2 dX6_takesOut_57 rfl rfl ?_
    refine gk_iload_n (pc := 58) C.1 1 dX6_takesOut_58 rfl rfl ?_
    refine gk_iadd (pc := 59) C.1 dX6_takesOut_59 ?_
    obtain ⟨hi, hw⟩ := hw
    refine tk_ald (pc := 60) C (k := 3) (by decide) hi dX6_takesOut_60 ?_
    obtain ⟨hi, hw⟩ := hw
    refine tk_ast (pc := 61) C (k := 3) (by decide) hi dX6_takesOut_61 (fun u_4 eu_4 => ?_)
    replace hw := hw u_4 eu_4
    obtain ⟨x_5, ex_5⟩ : ∃ z : Int32, z = x3 + 1 := ⟨_, rfl⟩
    replace hw := hw x_5 ex_5
    refine gk_iinc (pc := 62) (v := x_5) (lv' := [(3, Value.int x_5), (0, Value.ref G.2.2.1), (2, Value.int x2)]) C.1 2 dX6_takesOut_62 rfl (by rw [ex_5]; rfl) (by rw [hXn]; decide) rfl ?_
    refine gk_goto (pc := 65) (tgt := 12) C.1 dX6_takesOut_65 (by decide) ?_
    refine GK.sub (lv' := [(0, .ref G.2.2.1), (2, .int x2), (3, .int x_5)]) [1, 2, 0] rfl ?_
    exact ih _ _ _ hw
def wt_takesOut (k : TS → Prop) (x1 : Int32) (x2 : Int32) (u : TS) : Prop := ∀ u_1 : TS, u_1 = tpI u 6 ((u.2 6) - x2) → (∃ fu : Nat, wt_takesOut_12 k fu x2 x1 u_1)
theorem wk_takesOut (l : Launch) {G : TG} (hG : TD G) {k : TS → Prop} {x1 : Int32} {x2 : Int32} {u : TS} (hw : wt_takesOut k x1 x2 u) : TMet l yX6_takesOut cX6_takesOut 4 (none) 1 G [.ref G.2.2.1, .int x1, .int x2] u (tV k) := by
  refine tk_met hG rfl (Nat.le_of_ble_eq_true rfl) (fun X hXl hXn hret C => ?_)
  subst hXl
  unfold wt_takesOut at hw
  refine GK.sub (lv' := [(0, .ref G.2.2.1), (1, .int x1), (2, .int x2)]) [0, 1, 2] rfl ?_
  refine gk_aload_n (pc := 0) C.1 0 dX6_takesOut_0 rfl rfl ?_
  refine gk_dup (pc := 1) C.1 dX6_takesOut_1 rfl ?_
  refine tk_getI (pc := 2) C (k := 6) (by decide) (by decide) q2127 rfl dX6_takesOut_2 ?_
  refine gk_iload_n (pc := 5) C.1 2 dX6_takesOut_5 rfl rfl ?_
  refine gk_isub (pc := 6) C.1 dX6_takesOut_6 ?_
  refine tk_putI (pc := 7) C (k := 6) (by decide) (by decide) q2127 rfl rfl (ty := .int) rfl rfl rfl dX6_takesOut_7 (fun u_1 eu_1 => ?_)
  replace hw := hw u_1 eu_1
  refine gk_iload_n (pc := 10) C.1 1 dX6_takesOut_10 rfl rfl ?_
  refine gk_istore_n (pc := 11) (lv' := [(3, Value.int x1), (0, Value.ref G.2.2.1), (1, Value.int x1), (2, Value.int x2)]) C.1 dX6_takesOut_11 rfl (by rw [hXn]; decide) rfl ?_
  refine GK.sub (lv' := [(0, .ref G.2.2.1), (2, .int x2), (3, .int x1)]) [1, 3, 0] rfl ?_
  obtain ⟨n9, hw⟩ := hw
  exact kt_takesOut_12 C hG hret hXn  n9 _ _ _ hw
/-! putsAt(III)V -/
def wt_putsAt (k : TS → Prop) (x1 : Int32) (x2 : Int32) (x3 : Int32) (u : TS) : Prop := vp_in x1 21 ∧ (wt_takesOut (fun u_1 => vp_in x1 21 ∧ (∀ u_2 : TS, u_2 = tpA u_1 1 x1.toNatClampNeg x2 → (vp_in x1 21 ∧ (∀ u_3 : TS, u_3 = tpA u_2 2 x1.toNatClampNeg x3 → (wt_measures (fun u_4 => k u_4) u_3))))) (x1 + 1) ((u.1 4 x1.toNatClampNeg) - 1) u)
theorem wk_putsAt (l : Launch) {G : TG} (hG : TD G) {k : TS → Prop} {x1 : Int32} {x2 : Int32} {x3 : Int32} {u : TS} (hw : wt_putsAt k x1 x2 x3 u) : TMet l yX6_putsAt cX6_putsAt 4 (none) 4 G [.ref G.2.2.1, .int x1, .int x2, .int x3] u (tV k) := by
  refine tk_met hG rfl (Nat.le_of_ble_eq_true rfl) (fun X hXl hXn hret C => ?_)
  subst hXl
  unfold wt_putsAt at hw
  refine GK.sub (lv' := [(0, .ref G.2.2.1), (1, .int x1), (2, .int x2), (3, .int x3)]) [0, 1, 2, 3] rfl ?_
  refine gk_aload_n (pc := 0) C.1 0 dX6_putsAt_0 rfl rfl ?_
  refine gk_iload_n (pc := 1) C.1 1 dX6_putsAt_1 rfl rfl ?_
  refine gk_iconst (pc := 2) (v := 1) C.1 dX6_putsAt_2 (by decide) ?_
  refine gk_iadd (pc := 3) C.1 dX6_putsAt_3 ?_
  refine gk_aload_n (pc := 4) C.1 0 dX6_putsAt_4 rfl rfl ?_
  refine tk_getA (pc := 5) C (k := 4) (by decide) (by decide) q2125 rfl dX6_putsAt_5 ?_
  refine gk_iload_n (pc := 8) C.1 1 dX6_putsAt_8 rfl rfl ?_
  obtain ⟨hi, hw⟩ := hw
  refine tk_ald (pc := 9) C (k := 4) (by decide) hi dX6_putsAt_9 ?_
  refine gk_iconst (pc := 10) (v := 1) C.1 dX6_putsAt_10 (by decide) ?_
  refine gk_isub (pc := 11) C.1 dX6_putsAt_11 ?_
  refine tk_callV (pc := 12) (y := yX6_takesOut) (n := 2) (As := [.int (x1 + 1), .int ((u.1 4 x1.toNatClampNeg) - 1)]) (rest := []) C (wk_takesOut (ev_l X) hG hw) q2445 q2447 qs96 q2448 ⟨rfl, by decide +kernel⟩ ⟨by decide, by decide⟩ rfl rfl (Nat.le_of_ble_eq_true rfl) dX6_putsAt_12 (fun v9 u_1 hp => ?_)
  obtain ⟨rfl, hw⟩ := hp
  refine GK.at (p2 := 15) rfl ?_
  refine gk_aload_n (pc := 15) C.1 0 dX6_putsAt_15 rfl rfl ?_
  refine tk_getA (pc := 16) C (k := 1) (by decide) (by decide) q2122 rfl dX6_putsAt_16 ?_
  refine gk_iload_n (pc := 19) C.1 1 dX6_putsAt_19 rfl rfl ?_
  refine gk_iload_n (pc := 20) C.1 2 dX6_putsAt_20 rfl rfl ?_
  obtain ⟨hi, hw⟩ := hw
  refine tk_ast (pc := 21) C (k := 1) (by decide) hi dX6_putsAt_21 (fun u_2 eu_2 => ?_)
  replace hw := hw u_2 eu_2
  refine gk_aload_n (pc := 22) C.1 0 dX6_putsAt_22 rfl rfl ?_
  refine tk_getA (pc := 23) C (k := 2) (by decide) (by decide) q2123 rfl dX6_putsAt_23 ?_
  refine gk_iload_n (pc := 26) C.1 1 dX6_putsAt_26 rfl rfl ?_
  refine gk_iload_n (pc := 27) C.1 3 dX6_putsAt_27 rfl rfl ?_
  obtain ⟨hi, hw⟩ := hw
  refine tk_ast (pc := 28) C (k := 2) (by decide) hi dX6_putsAt_28 (fun u_3 eu_3 => ?_)
  replace hw := hw u_3 eu_3
  refine gk_aload_n (pc := 29) C.1 0 dX6_putsAt_29 rfl rfl ?_
  refine tk_callV (pc := 30) (y := yX6_measures) (n := 0) (As := []) (rest := []) C (wk_measures (ev_l X) hG hw) q2109 q2111 qs63 q2112 ⟨rfl, by decide +kernel⟩ ⟨by decide, by decide⟩ rfl rfl (Nat.le_of_ble_eq_true rfl) dX6_putsAt_30 (fun v9 u_4 hp => ?_)
  obtain ⟨rfl, hw⟩ := hp
  refine GK.at (p2 := 33) rfl ?_
  exact tk_vret (pc := 33) C hret dX6_putsAt_33 hw
/-! changesByLot()V -/
def wt_changesByLot (k : TS → Prop) (u : TS) : Prop := wt_draw (fun r_2 u_1 => wt_draw (fun r_4 u_3 => ((¬ r_4 = 0 → (wt_draw (fun r_7 u_6 => wt_putsAt (fun u_8 => k u_8) r_2 0 r_7 u_6) 100 u_3)) ∧ (r_4 = 0 → (wt_putsAt (fun u_9 => k u_9) r_2 1 0 u_3)))) 4 u_1) (u.2 6) u
theorem wk_changesByLot (l : Launch) {G : TG} (hG : TD G) {k : TS → Prop} {u : TS} (hw : wt_changesByLot k  u) : TMet l yX6_changesByLot cX6_changesByLot 2 (none) 5 G [.ref G.2.2.1] u (tV k) := by
  refine tk_met hG rfl (Nat.le_of_ble_eq_true rfl) (fun X hXl hXn hret C => ?_)
  subst hXl
  unfold wt_changesByLot at hw
  refine GK.sub (lv' := [(0, .ref G.2.2.1)]) [0] rfl ?_
  refine gk_aload_n (pc := 0) C.1 0 dX6_changesByLot_0 rfl rfl ?_
  refine gk_aload_n (pc := 1) C.1 0 dX6_changesByLot_1 rfl rfl ?_
  refine tk_getI (pc := 2) C (k := 6) (by decide) (by decide) q2127 rfl dX6_changesByLot_2 ?_
  refine tk_callV (pc := 5) (y := yX6_draw) (n := 1) (As := [.int (u.2 6)]) (rest := []) C (wk_draw (ev_l X) hG hw) q2703 q2705 qs135 q2706 ⟨rfl, by decide +kernel⟩ ⟨by decide, by decide⟩ rfl rfl (Nat.le_of_ble_eq_true rfl) dX6_changesByLot_5 (fun v9 u_1 hp => ?_)
  obtain ⟨r_2, rfl, hw⟩ := hp
  refine GK.at (p2 := 8) rfl ?_
  refine gk_istore_n (pc := 8) (lv' := [(1, Value.int r_2), (0, Value.ref G.2.2.1)]) C.1 dX6_changesByLot_8 rfl (by rw [hXn]; decide) rfl ?_
  refine gk_aload_n (pc := 9) C.1 1 dX6_changesByLot_9 rfl rfl ?_
  refine gk_iconst (pc := 10) (v := 4) C.1 dX6_changesByLot_10 (by decide) ?_
  refine tk_callV (pc := 11) (y := yX6_draw) (n := 1) (As := [.int 4]) (rest := []) C (wk_draw (ev_l X) hG hw) q2703 q2705 qs135 q2706 ⟨rfl, by decide +kernel⟩ ⟨by decide, by decide⟩ rfl rfl (Nat.le_of_ble_eq_true rfl) dX6_changesByLot_11 (fun v9 u_3 hp => ?_)
  obtain ⟨r_4, rfl, hw⟩ := hp
  refine GK.at (p2 := 14) rfl ?_
  refine gk_if_ne (pc := 14) (tgt := 27) C.1 dX6_changesByLot_14 (by decide) (fun c_5 => ?_) (fun c_5 => ?_)
  · replace hw := hw.1 c_5
    refine gk_aload_n (pc := 27) C.1 1 dX6_changesByLot_27 rfl rfl ?_
    refine gk_iload_n (pc := 28) C.1 0 dX6_changesByLot_28 rfl rfl ?_
    refine gk_iconst (pc := 29) (v := 0) C.1 dX6_changesByLot_29 (by decide) ?_
    refine gk_aload_n (pc := 30) C.1 1 dX6_changesByLot_30 rfl rfl ?_
    refine gk_bipush (pc := 31) (v := 100) C.1 dX6_changesByLot_31 (by decide) ?_
    refine tk_callV (pc := 33) (y := yX6_draw) (n := 1) (As := [.int 100]) (rest := [.int 0, .int r_2, .ref G.2.2.1]) C (wk_draw (ev_l X) hG hw) q2703 q2705 qs135 q2706 ⟨rfl, by decide +kernel⟩ ⟨by decide, by decide⟩ rfl rfl (Nat.le_of_ble_eq_true rfl) dX6_changesByLot_33 (fun v9 u_6 hp => ?_)
    obtain ⟨r_7, rfl, hw⟩ := hp
    refine GK.at (p2 := 36) rfl ?_
    refine tk_callV (pc := 36) (y := yX6_putsAt) (n := 3) (As := [.int r_2, .int 0, .int r_7]) (rest := []) C (wk_putsAt (ev_l X) hG hw) q2441 q2443 qs95 q2444 ⟨rfl, by decide +kernel⟩ ⟨by decide, by decide⟩ rfl rfl (Nat.le_of_ble_eq_true rfl) dX6_changesByLot_36 (fun v9 u_8 hp => ?_)
    obtain ⟨rfl, hw⟩ := hp
    refine GK.at (p2 := 39) rfl ?_
    exact tk_vret (pc := 39) C hret dX6_changesByLot_39 hw
  · replace hw := hw.2 c_5
    refine gk_aload_n (pc := 17) C.1 1 dX6_changesByLot_17 rfl rfl ?_
    refine gk_iload_n (pc := 18) C.1 0 dX6_changesByLot_18 rfl rfl ?_
    refine gk_iconst (pc := 19) (v := 1) C.1 dX6_changesByLot_19 (by decide) ?_
    refine gk_iconst (pc := 20) (v := 0) C.1 dX6_changesByLot_20 (by decide) ?_
    refine tk_callV (pc := 21) (y := yX6_putsAt) (n := 3) (As := [.int r_2, .int 1, .int 0]) (rest := []) C (wk_putsAt (ev_l X) hG hw) q2441 q2443 qs95 q2444 ⟨rfl, by decide +kernel⟩ ⟨by decide, by decide⟩ rfl rfl (Nat.le_of_ble_eq_true rfl) dX6_changesByLot_21 (fun v9 u_9 hp => ?_)
    obtain ⟨rfl, hw⟩ := hp
    refine GK.at (p2 := 24) rfl ?_
    refine gk_goto (pc := 24) (tgt := 39) C.1 dX6_changesByLot_24 (by decide) ?_
    exact tk_vret (pc := 39) C hret dX6_changesByLot_39 hw
/-! passOne(I)I -/
def wt_passOne_38 (k : Int32 → TS → Prop) (x2 : Int32) (u : TS) : Prop := ∀ u_1 : TS, u_1 = tpI u 50 ((u.2 50) + 1) → (k x2 u_1)
theorem kt_passOne_38 {X : Ev} {G : TG} {k : Int32 → TS → Prop} (C : TC X G cX6_passOne 1) (hG : TD G) (hret : (ev_h X).sig.returnType = some .int) (hXn : ev_n X = 3) : ∀ (x2 : Int32) (u : TS), wt_passOne_38 k x2 u → GK X (TP G u) 0 0 (tQ X G (tI k)) 38 [(0, .ref G.2.2.1), (2, .int x2)] [] := by
  intro x2 u hw
  unfold wt_passOne_38 at hw
  refine gk_aload_n (pc := 38) C.1 0 dX6_passOne_38 rfl rfl ?_
  refine gk_dup (pc := 39) C.1 dX6_passOne_39 rfl ?_
  refine tk_getI (pc := 40) C (k := 50) (by decide) (by decide) q2171 rfl dX6_passOne_40 ?_
  refine gk_iconst (pc := 43) (v := 1) C.1 dX6_passOne_43 (by decide) ?_
  refine gk_iadd (pc := 44) C.1 dX6_passOne_44 ?_
  refine tk_putI (pc := 45) C (k := 50) (by decide) (by decide) q2171 rfl rfl (ty := .int) rfl rfl rfl dX6_passOne_45 (fun u_1 eu_1 => ?_)
  replace hw := hw u_1 eu_1
  refine gk_iload_n (pc := 48) C.1 1 dX6_passOne_48 rfl rfl ?_
  exact tk_iret (pc := 49) C hret dX6_passOne_49 hw
def wt_passOne_20 (k : Int32 → TS → Prop) (x1 : Int32) (s0 : Int32) (u : TS) : Prop := (((u.2 49) = 0 → (wt_passOne_38 k s0 u)) ∧ (¬ (u.2 49) = 0 → (vp_in (u.2 50) 1400 ∧ (∀ u_2 : TS, u_2 = tpA u 47 (u.2 50).toNatClampNeg x1 → (wt_passOne_38 k s0 u_2)))))
theorem kt_passOne_20 {X : Ev} {G : TG} {k : Int32 → TS → Prop} (C : TC X G cX6_passOne 1) (hG : TD G) (hret : (ev_h X).sig.returnType = some .int) (hXn : ev_n X = 3) : ∀ (x1 : Int32) (s0 : Int32) (u : TS), wt_passOne_20 k x1 s0 u → GK X (TP G u) 0 0 (tQ X G (tI k)) 20 [(0, .ref G.2.2.1), (1, .int x1)] [.int s0] := by
  intro x1 s0 u hw
  unfold wt_passOne_20 at hw
  refine gk_istore_n (pc := 20) (lv' := [(2, Value.int s0), (0, Value.ref G.2.2.1), (1, Value.int x1)]) C.1 dX6_passOne_20 rfl (by rw [hXn]; decide) rfl ?_
  refine gk_aload_n (pc := 21) C.1 1 dX6_passOne_21 rfl rfl ?_
  refine tk_getI (pc := 22) C (k := 49) (by decide) (by decide) q2170 rfl dX6_passOne_22 ?_
  refine gk_if_eq (pc := 25) (tgt := 38) C.1 dX6_passOne_25 (by decide) (fun c_1 => ?_) (fun c_1 => ?_)
  · replace hw := hw.1 c_1
    refine GK.sub (lv' := [(0, .ref G.2.2.1), (2, .int s0)]) [1, 0] rfl ?_
    exact kt_passOne_38 C hG hret hXn  _ _ hw
  · replace hw := hw.2 c_1
    refine gk_aload_n (pc := 28) C.1 1 dX6_passOne_28 rfl rfl ?_
    refine tk_getA (pc := 29) C (k := 47) (by decide) (by decide) q2168 rfl dX6_passOne_29 ?_
    refine gk_aload_n (pc := 32) C.1 1 dX6_passOne_32 rfl rfl ?_
    refine tk_getI (pc := 33) C (k := 50) (by decide) (by decide) q2171 rfl dX6_passOne_33 ?_
    refine gk_iload_n (pc := 36) C.1 2 dX6_passOne_36 rfl rfl ?_
    obtain ⟨hi, hw⟩ := hw
    refine tk_ast (pc := 37) C (k := 47) (by decide) hi dX6_passOne_37 (fun u_2 eu_2 => ?_)
    replace hw := hw u_2 eu_2
    refine GK.sub (lv' := [(0, .ref G.2.2.1), (2, .int s0)]) [1, 0] rfl ?_
    exact kt_passOne_38 C hG hret hXn  _ _ hw
def wt_passOne (k : Int32 → TS → Prop) (x1 : Int32) (u : TS) : Prop := (((u.2 49) = 0 → (vp_in (u.2 50) 1400 ∧ (wt_passOne_20 k x1 (u.1 47 (u.2 50).toNatClampNeg) u))) ∧ (¬ (u.2 49) = 0 → (wt_passOne_20 k x1 x1 u)))
theorem wk_passOne (l : Launch) {G : TG} (hG : TD G) {k : Int32 → TS → Prop} {x1 : Int32} {u : TS} (hw : wt_passOne k x1 u) : TMet l yX6_passOne cX6_passOne 3 (some .int) 1 G [.ref G.2.2.1, .int x1] u (tI k) := by
  refine tk_met hG rfl (Nat.le_of_ble_eq_true rfl) (fun X hXl hXn hret C => ?_)
  subst hXl
  unfold wt_passOne at hw
  refine GK.sub (lv' := [(0, .ref G.2.2.1), (1, .int x1)]) [0, 1] rfl ?_
  refine gk_aload_n (pc := 0) C.1 0 dX6_passOne_0 rfl rfl ?_
  refine tk_getI (pc := 1) C (k := 49) (by decide) (by decide) q2170 rfl dX6_passOne_1 ?_
  refine gk_if_eq (pc := 4) (tgt := 11) C.1 dX6_passOne_4 (by decide) (fun c_1 => ?_) (fun c_1 => ?_)
  · replace hw := hw.1 c_1
    refine gk_aload_n (pc := 11) C.1 0 dX6_passOne_11 rfl rfl ?_
    refine tk_getA (pc := 12) C (k := 47) (by decide) (by decide) q2168 rfl dX6_passOne_12 ?_
    refine gk_aload_n (pc := 15) C.1 0 dX6_passOne_15 rfl rfl ?_
    refine tk_getI (pc := 16) C (k := 50) (by decide) (by decide) q2171 rfl dX6_passOne_16 ?_
    obtain ⟨hi, hw⟩ := hw
    refine tk_ald (pc := 19) C (k := 47) (by decide) hi dX6_passOne_19 ?_
    refine GK.sub (lv' := [(0, .ref G.2.2.1), (1, .int x1)]) [0, 1] rfl ?_
    exact kt_passOne_20 C hG hret hXn  _ _ _ hw
  · replace hw := hw.2 c_1
    refine gk_iload_n (pc := 7) C.1 1 dX6_passOne_7 rfl rfl ?_
    refine gk_goto (pc := 8) (tgt := 20) C.1 dX6_passOne_8 (by decide) ?_
    refine GK.sub (lv' := [(0, .ref G.2.2.1), (1, .int x1)]) [0, 1] rfl ?_
    exact kt_passOne_20 C hG hret hXn  _ _ _ hw
/-! passes([I)V -/
def wt_passes_42 (k : TS → Prop) (x1 : Nat) (J2 : Int32 → TS → Prop) (x2 : Int32) (u : TS) : Prop := ∀ u_1 : TS, u_1 = tpI u 50 ((u.2 50) + 1) → (∀ x_2 : Int32, x_2 = x2 + 1 → (J2 x_2 u_1))
theorem kt_passes_42 {X : Ev} {G : TG} {k : TS → Prop} {x1 : Nat} {J2 : Int32 → TS → Prop} (C : TC X G cX6_passes 1) (hG : TD G) (hret : (ev_h X).sig.returnType = none) (hXn : ev_n X = 3) (hJ2 : ∀ (x2 : Int32) (u : TS), J2 x2 u → GK X (TP G u) 0 0 (tQ X G (tV k)) 2 [(0, .ref G.2.2.1), (1, .ref (G.2.2.2 x1)), (2, .int x2)] []) : ∀ (x2 : Int32) (u : TS), wt_passes_42 k x1 J2 x2 u → GK X (TP G u) 0 0 (tQ X G (tV k)) 42 [(0, .ref G.2.2.1), (1, .ref (G.2.2.2 x1)), (2, .int x2)] [] := by
  intro x2 u hw
  unfold wt_passes_42 at hw
  refine gk_aload_n (pc := 42) C.1 0 dX6_passes_42 rfl rfl ?_
  refine gk_dup (pc := 43) C.1 dX6_passes_43 rfl ?_
  refine tk_getI (pc := 44) C (k := 50) (by decide) (by decide) q2171 rfl dX6_passes_44 ?_
  refine gk_iconst (pc := 47) (v := 1) C.1 dX6_passes_47 (by decide) ?_
  refine gk_iadd (pc := 48) C.1 dX6_passes_48 ?_
  refine tk_putI (pc := 49) C (k := 50) (by decide) (by decide) q2171 rfl rfl (ty := .int) rfl rfl rfl dX6_passes_49 (fun u_1 eu_1 => ?_)
  replace hw := hw u_1 eu_1
  obtain ⟨x_2, ex_2⟩ : ∃ z : Int32, z = x2 + 1 := ⟨_, rfl⟩
  replace hw := hw x_2 ex_2
  refine gk_iinc (pc := 52) (v := x_2) (lv' := [(2, Value.int x_2), (0, Value.ref G.2.2.1), (1, Value.ref (G.2.2.2 x1))]) C.1 2 dX6_passes_52 rfl (by rw [ex_2]; rfl) (by rw [hXn]; decide) rfl ?_
  refine gk_goto (pc := 55) (tgt := 2) C.1 dX6_passes_55 (by decide) ?_
  refine GK.sub (lv' := [(0, .ref G.2.2.1), (1, .ref (G.2.2.2 x1)), (2, .int x_2)]) [1, 2, 0] rfl ?_
  exact hJ2 _ _ hw
def wt_passes_2 (k : TS → Prop) (x1 : Nat) : Nat → Int32 → TS → Prop
  | 0 => fun _ _ => False
  | n + 1 => fun x2 u => x1 ∈ tLA ∧ ((((nI (tln x1)) ≤ x2 → (k u)) ∧ (¬ (nI (tln x1)) ≤ x2 → ((((u.2 49) = 0 → (vp_in (u.2 50) 1400 ∧ (x1 ∈ tLA ∧ vp_in x2 (tln x1) ∧ (∀ u_3 : TS, u_3 = tpA u x1 x2.toNatClampNeg (u.1 47 (u.2 50).toNatClampNeg) → (wt_passes_42 k x1 (fun yx2 yu => wt_passes_2 k x1 n yx2 yu) x2 u_3))))) ∧ (¬ (u.2 49) = 0 → (x1 ∈ tLA ∧ vp_in x2 (tln x1) ∧ (vp_in (u.2 50) 1400 ∧ (∀ u_4 : TS, u_4 = tpA u 47 (u.2 50).toNatClampNeg (u.1 x1 x2.toNatClampNeg) → (wt_passes_42 k x1 (fun yx2 yu => wt_passes_2 k x1 n yx2 yu) x2 u_4))))))))))
theorem kt_passes_2 {X : Ev} {G : TG} {k : TS → Prop} {x1 : Nat} (C : TC X G cX6_passes 1) (hG : TD G) (hret : (ev_h X).sig.returnType = none) (hXn : ev_n X = 3) : ∀ (n : Nat) (x2 : Int32) (u : TS), wt_passes_2 k x1 n x2 u → GK X (TP G u) 0 0 (tQ X G (tV k)) 2 [(0, .ref G.2.2.1), (1, .ref (G.2.2.2 x1)), (2, .int x2)] [] := by
  intro n
  induction n with
  | zero => intro x2 u hw; exact hw.elim
  | succ n ih =>
  intro x2 u hw
  unfold wt_passes_2 at hw
  refine gk_iload_n (pc := 2) C.1 2 dX6_passes_2 rfl rfl ?_
  refine gk_aload_n (pc := 3) C.1 1 dX6_passes_3 rfl rfl ?_
  obtain ⟨hm, hw⟩ := hw
  refine tk_len (pc := 4) C (k := x1) hm dX6_passes_4 ?_
  refine gk_icmp_ge (pc := 5) (tgt := 58) C.1 dX6_passes_5 (by decide) (fun c_1 => ?_) (fun c_1 => ?_)
  · replace hw := hw.1 c_1
    exact tk_vret (pc := 58) C hret dX6_passes_58 hw
  · replace hw := hw.2 c_1
    refine gk_aload_n (pc := 8) C.1 0 dX6_passes_8 rfl rfl ?_
    refine tk_getI (pc := 9) C (k := 49) (by decide) (by decide) q2170 rfl dX6_passes_9 ?_
    refine gk_if_eq (pc := 12) (tgt := 30) C.1 dX6_passes_12 (by decide) (fun c_2 => ?_) (fun c_2 => ?_)
    · replace hw := hw.1 c_2
      refine gk_aload_n (pc := 30) C.1 1 dX6_passes_30 rfl rfl ?_
      refine gk_iload_n (pc := 31) C.1 2 dX6_passes_31 rfl rfl ?_
      refine gk_aload_n (pc := 32) C.1 0 dX6_passes_32 rfl rfl ?_
      refine tk_getA (pc := 33) C (k := 47) (by decide) (by decide) q2168 rfl dX6_passes_33 ?_
      refine gk_aload_n (pc := 36) C.1 0 dX6_passes_36 rfl rfl ?_
      refine tk_getI (pc := 37) C (k := 50) (by decide) (by decide) q2171 rfl dX6_passes_37 ?_
      obtain ⟨hi, hw⟩ := hw
      refine tk_ald (pc := 40) C (k := 47) (by decide) hi dX6_passes_40 ?_
      obtain ⟨hm, hi, hw⟩ := hw
      refine tk_ast (pc := 41) C (k := x1) hm hi dX6_passes_41 (fun u_3 eu_3 => ?_)
      replace hw := hw u_3 eu_3
      refine GK.sub (lv' := [(0, .ref G.2.2.1), (1, .ref (G.2.2.2 x1)), (2, .int x2)]) [0, 1, 2] rfl ?_
      exact kt_passes_42 C hG hret hXn ih _ _ hw
    · replace hw := hw.2 c_2
      refine gk_aload_n (pc := 15) C.1 0 dX6_passes_15 rfl rfl ?_
      refine tk_getA (pc := 16) C (k := 47) (by decide) (by decide) q2168 rfl dX6_passes_16 ?_
      refine gk_aload_n (pc := 19) C.1 0 dX6_passes_19 rfl rfl ?_
      refine tk_getI (pc := 20) C (k := 50) (by decide) (by decide) q2171 rfl dX6_passes_20 ?_
      refine gk_aload_n (pc := 23) C.1 1 dX6_passes_23 rfl rfl ?_
      refine gk_iload_n (pc := 24) C.1 2 dX6_passes_24 rfl rfl ?_
      obtain ⟨hm, hi, hw⟩ := hw
      refine tk_ald (pc := 25) C (k := x1) hm hi dX6_passes_25 ?_
      obtain ⟨hi, hw⟩ := hw
      refine tk_ast (pc := 26) C (k := 47) (by decide) hi dX6_passes_26 (fun u_4 eu_4 => ?_)
      replace hw := hw u_4 eu_4
      refine gk_goto (pc := 27) (tgt := 42) C.1 dX6_passes_27 (by decide) ?_
      refine GK.sub (lv' := [(0, .ref G.2.2.1), (1, .ref (G.2.2.2 x1)), (2, .int x2)]) [0, 1, 2] rfl ?_
      exact kt_passes_42 C hG hret hXn ih _ _ hw
def wt_passes (k : TS → Prop) (x1 : Nat) (u : TS) : Prop := ∃ fu : Nat, wt_passes_2 k x1 fu 0 u
theorem wk_passes (l : Launch) {G : TG} (hG : TD G) {k : TS → Prop} {x1 : Nat} {u : TS} (hw : wt_passes k x1 u) : TMet l yX6_passes cX6_passes 3 (none) 1 G [.ref G.2.2.1, .ref (G.2.2.2 x1)] u (tV k) := by
  refine tk_met hG rfl (Nat.le_of_ble_eq_true rfl) (fun X hXl hXn hret C => ?_)
  subst hXl
  unfold wt_passes at hw
  refine GK.sub (lv' := [(0, .ref G.2.2.1), (1, .ref (G.2.2.2 x1))]) [0, 1] rfl ?_
  refine gk_iconst (pc := 0) (v := 0) C.1 dX6_passes_0 (by decide) ?_
  refine gk_istore_n (pc := 1) (lv' := [(2, Value.int 0), (0, Value.ref G.2.2.1), (1, Value.ref (G.2.2.2 x1))]) C.1 dX6_passes_1 rfl (by rw [hXn]; decide) rfl ?_
  refine GK.sub (lv' := [(0, .ref G.2.2.1), (1, .ref (G.2.2.2 x1)), (2, .int 0)]) [1, 2, 0] rfl ?_
  obtain ⟨n9, hw⟩ := hw
  exact kt_passes_2 C hG hret hXn  n9 _ _ hw
/-! passesCheck(IZ)V -/
def wt_passesCheck (k : TS → Prop) (x1 : Int32) (x2 : Int32) (u : TS) : Prop := ∀ u_1 : TS, u_1 = tpI u 50 ((460 * x1) + 64) → (bz x2 ∧ (∀ u_2 : TS, u_2 = tpI u_1 49 x2 → (wt_passes (fun u_3 => wt_passes (fun u_4 => wt_passes (fun u_5 => wt_passes (fun u_6 => wt_passes (fun u_7 => wt_passes (fun u_8 => wt_passes (fun u_9 => wt_passes (fun u_10 => wt_passes (fun u_11 => wt_passes (fun u_12 => wt_passes (fun u_13 => wt_passes (fun u_14 => wt_passes (fun u_15 => wt_passOne (fun r_17 u_16 => ∀ u_18 : TS, u_18 = tpI u_16 20 r_17 → (wt_passOne (fun r_20 u_19 => ∀ u_21 : TS, u_21 = tpI u_19 21 r_20 → (wt_passOne (fun r_23 u_22 => ∀ u_24 : TS, u_24 = tpI u_22 22 r_23 → (k u_24)) (u_21.2 22) u_21)) (u_18.2 21) u_18)) (u_15.2 20) u_15) 19 u_14) 18 u_13) 17 u_12) 16 u_11) 15 u_10) 14 u_9) 13 u_8) 12 u_7) 11 u_6) 10 u_5) 9 u_4) 8 u_3) 7 u_2)))
theorem wk_passesCheck (l : Launch) {G : TG} (hG : TD G) {k : TS → Prop} {x1 : Int32} {x2 : Int32} {u : TS} (hw : wt_passesCheck k x1 x2 u) : TMet l yX6_passesCheck cX6_passesCheck 3 (none) 2 G [.ref G.2.2.1, .int x1, .int x2] u (tV k) := by
  refine tk_met hG rfl (Nat.le_of_ble_eq_true rfl) (fun X hXl hXn hret C => ?_)
  subst hXl
  unfold wt_passesCheck at hw
  refine GK.sub (lv' := [(0, .ref G.2.2.1), (1, .int x1), (2, .int x2)]) [0, 1, 2] rfl ?_
  refine gk_aload_n (pc := 0) C.1 0 dX6_passesCheck_0 rfl rfl ?_
  refine gk_sipush (pc := 1) (v := 460) C.1 dX6_passesCheck_1 (by decide) ?_
  refine gk_iload_n (pc := 4) C.1 1 dX6_passesCheck_4 rfl rfl ?_
  refine gk_imul (pc := 5) C.1 dX6_passesCheck_5 ?_
  refine gk_bipush (pc := 6) (v := 64) C.1 dX6_passesCheck_6 (by decide) ?_
  refine gk_iadd (pc := 8) C.1 dX6_passesCheck_8 ?_
  refine tk_putI (pc := 9) C (k := 50) (by decide) (by decide) q2171 rfl rfl (ty := .int) rfl rfl rfl dX6_passesCheck_9 (fun u_1 eu_1 => ?_)
  replace hw := hw u_1 eu_1
  refine gk_aload_n (pc := 12) C.1 0 dX6_passesCheck_12 rfl rfl ?_
  refine gk_iload_n (pc := 13) C.1 2 dX6_passesCheck_13 rfl rfl ?_
  obtain ⟨hz, hw⟩ := hw
  refine tk_putI (pc := 14) C (k := 49) (by decide) (by decide) q2170 rfl rfl (ty := .boolean) rfl (bz_nar hz) (bz_fit hz) dX6_passesCheck_14 (fun u_2 eu_2 => ?_)
  replace hw := hw u_2 eu_2
  refine gk_aload_n (pc := 17) C.1 0 dX6_passesCheck_17 rfl rfl ?_
  refine gk_aload_n (pc := 18) C.1 0 dX6_passesCheck_18 rfl rfl ?_
  refine tk_getA (pc := 19) C (k := 7) (by decide) (by decide) q2128 rfl dX6_passesCheck_19 ?_
  refine tk_callV (pc := 22) (y := yX6_passes) (n := 1) (As := [.ref (G.2.2.2 7)]) (rest := []) C (wk_passes (ev_l X) hG hw) q2303 q2305 qs68 q2306 ⟨rfl, by decide +kernel⟩ ⟨by decide, by decide⟩ rfl rfl (Nat.le_of_ble_eq_true rfl) dX6_passesCheck_22 (fun v9 u_3 hp => ?_)
  obtain ⟨rfl, hw⟩ := hp
  refine GK.at (p2 := 25) rfl ?_
  refine gk_aload_n (pc := 25) C.1 0 dX6_passesCheck_25 rfl rfl ?_
  refine gk_aload_n (pc := 26) C.1 0 dX6_passesCheck_26 rfl rfl ?_
  refine tk_getA (pc := 27) C (k := 8) (by decide) (by decide) q2129 rfl dX6_passesCheck_27 ?_
  refine tk_callV (pc := 30) (y := yX6_passes) (n := 1) (As := [.ref (G.2.2.2 8)]) (rest := []) C (wk_passes (ev_l X) hG hw) q2303 q2305 qs68 q2306 ⟨rfl, by decide +kernel⟩ ⟨by decide, by decide⟩ rfl rfl (Nat.le_of_ble_eq_true rfl) dX6_passesCheck_30 (fun v9 u_4 hp => ?_)
  obtain ⟨rfl, hw⟩ := hp
  refine GK.at (p2 := 33) rfl ?_
  refine gk_aload_n (pc := 33) C.1 0 dX6_passesCheck_33 rfl rfl ?_
  refine gk_aload_n (pc := 34) C.1 0 dX6_passesCheck_34 rfl rfl ?_
  refine tk_getA (pc := 35) C (k := 9) (by decide) (by decide) q2130 rfl dX6_passesCheck_35 ?_
  refine tk_callV (pc := 38) (y := yX6_passes) (n := 1) (As := [.ref (G.2.2.2 9)]) (rest := []) C (wk_passes (ev_l X) hG hw) q2303 q2305 qs68 q2306 ⟨rfl, by decide +kernel⟩ ⟨by decide, by decide⟩ rfl rfl (Nat.le_of_ble_eq_true rfl) dX6_passesCheck_38 (fun v9 u_5 hp => ?_)
  obtain ⟨rfl, hw⟩ := hp
  refine GK.at (p2 := 41) rfl ?_
  refine gk_aload_n (pc := 41) C.1 0 dX6_passesCheck_41 rfl rfl ?_
  refine gk_aload_n (pc := 42) C.1 0 dX6_passesCheck_42 rfl rfl ?_
  refine tk_getA (pc := 43) C (k := 10) (by decide) (by decide) q2131 rfl dX6_passesCheck_43 ?_
  refine tk_callV (pc := 46) (y := yX6_passes) (n := 1) (As := [.ref (G.2.2.2 10)]) (rest := []) C (wk_passes (ev_l X) hG hw) q2303 q2305 qs68 q2306 ⟨rfl, by decide +kernel⟩ ⟨by decide, by decide⟩ rfl rfl (Nat.le_of_ble_eq_true rfl) dX6_passesCheck_46 (fun v9 u_6 hp => ?_)
  obtain ⟨rfl, hw⟩ := hp
  refine GK.at (p2 := 49) rfl ?_
  refine gk_aload_n (pc := 49) C.1 0 dX6_passesCheck_49 rfl rfl ?_
  refine gk_aload_n (pc := 50) C.1 0 dX6_passesCheck_50 rfl rfl ?_
  refine tk_getA (pc := 51) C (k := 11) (by decide) (by decide) q2132 rfl dX6_passesCheck_51 ?_
  refine tk_callV (pc := 54) (y := yX6_passes) (n := 1) (As := [.ref (G.2.2.2 11)]) (rest := []) C (wk_passes (ev_l X) hG hw) q2303 q2305 qs68 q2306 ⟨rfl, by decide +kernel⟩ ⟨by decide, by decide⟩ rfl rfl (Nat.le_of_ble_eq_true rfl) dX6_passesCheck_54 (fun v9 u_7 hp => ?_)
  obtain ⟨rfl, hw⟩ := hp
  refine GK.at (p2 := 57) rfl ?_
  refine gk_aload_n (pc := 57) C.1 0 dX6_passesCheck_57 rfl rfl ?_
  refine gk_aload_n (pc := 58) C.1 0 dX6_passesCheck_58 rfl rfl ?_
  refine tk_getA (pc := 59) C (k := 12) (by decide) (by decide) q2133 rfl dX6_passesCheck_59 ?_
  refine tk_callV (pc := 62) (y := yX6_passes) (n := 1) (As := [.ref (G.2.2.2 12)]) (rest := []) C (wk_passes (ev_l X) hG hw) q2303 q2305 qs68 q2306 ⟨rfl, by decide +kernel⟩ ⟨by decide, by decide⟩ rfl rfl (Nat.le_of_ble_eq_true rfl) dX6_passesCheck_62 (fun v9 u_8 hp => ?_)
  obtain ⟨rfl, hw⟩ := hp
  refine GK.at (p2 := 65) rfl ?_
  refine gk_aload_n (pc := 65) C.1 0 dX6_passesCheck_65 rfl rfl ?_
  refine gk_aload_n (pc := 66) C.1 0 dX6_passesCheck_66 rfl rfl ?_
  refine tk_getA (pc := 67) C (k := 13) (by decide) (by decide) q2134 rfl dX6_passesCheck_67 ?_
  refine tk_callV (pc := 70) (y := yX6_passes) (n := 1) (As := [.ref (G.2.2.2 13)]) (rest := []) C (wk_passes (ev_l X) hG hw) q2303 q2305 qs68 q2306 ⟨rfl, by decide +kernel⟩ ⟨by decide, by decide⟩ rfl rfl (Nat.le_of_ble_eq_true rfl) dX6_passesCheck_70 (fun v9 u_9 hp => ?_)
  obtain ⟨rfl, hw⟩ := hp
  refine GK.at (p2 := 73) rfl ?_
  refine gk_aload_n (pc := 73) C.1 0 dX6_passesCheck_73 rfl rfl ?_
  refine gk_aload_n (pc := 74) C.1 0 dX6_passesCheck_74 rfl rfl ?_
  refine tk_getA (pc := 75) C (k := 14) (by decide) (by decide) q2135 rfl dX6_passesCheck_75 ?_
  refine tk_callV (pc := 78) (y := yX6_passes) (n := 1) (As := [.ref (G.2.2.2 14)]) (rest := []) C (wk_passes (ev_l X) hG hw) q2303 q2305 qs68 q2306 ⟨rfl, by decide +kernel⟩ ⟨by decide, by decide⟩ rfl rfl (Nat.le_of_ble_eq_true rfl) dX6_passesCheck_78 (fun v9 u_10 hp => ?_)
  obtain ⟨rfl, hw⟩ := hp
  refine GK.at (p2 := 81) rfl ?_
  refine gk_aload_n (pc := 81) C.1 0 dX6_passesCheck_81 rfl rfl ?_
  refine gk_aload_n (pc := 82) C.1 0 dX6_passesCheck_82 rfl rfl ?_
  refine tk_getA (pc := 83) C (k := 15) (by decide) (by decide) q2136 rfl dX6_passesCheck_83 ?_
  refine tk_callV (pc := 86) (y := yX6_passes) (n := 1) (As := [.ref (G.2.2.2 15)]) (rest := []) C (wk_passes (ev_l X) hG hw) q2303 q2305 qs68 q2306 ⟨rfl, by decide +kernel⟩ ⟨by decide, by decide⟩ rfl rfl (Nat.le_of_ble_eq_true rfl) dX6_passesCheck_86 (fun v9 u_11 hp => ?_)
  obtain ⟨rfl, hw⟩ := hp
  refine GK.at (p2 := 89) rfl ?_
  refine gk_aload_n (pc := 89) C.1 0 dX6_passesCheck_89 rfl rfl ?_
  refine gk_aload_n (pc := 90) C.1 0 dX6_passesCheck_90 rfl rfl ?_
  refine tk_getA (pc := 91) C (k := 16) (by decide) (by decide) q2137 rfl dX6_passesCheck_91 ?_
  refine tk_callV (pc := 94) (y := yX6_passes) (n := 1) (As := [.ref (G.2.2.2 16)]) (rest := []) C (wk_passes (ev_l X) hG hw) q2303 q2305 qs68 q2306 ⟨rfl, by decide +kernel⟩ ⟨by decide, by decide⟩ rfl rfl (Nat.le_of_ble_eq_true rfl) dX6_passesCheck_94 (fun v9 u_12 hp => ?_)
  obtain ⟨rfl, hw⟩ := hp
  refine GK.at (p2 := 97) rfl ?_
  refine gk_aload_n (pc := 97) C.1 0 dX6_passesCheck_97 rfl rfl ?_
  refine gk_aload_n (pc := 98) C.1 0 dX6_passesCheck_98 rfl rfl ?_
  refine tk_getA (pc := 99) C (k := 17) (by decide) (by decide) q2138 rfl dX6_passesCheck_99 ?_
  refine tk_callV (pc := 102) (y := yX6_passes) (n := 1) (As := [.ref (G.2.2.2 17)]) (rest := []) C (wk_passes (ev_l X) hG hw) q2303 q2305 qs68 q2306 ⟨rfl, by decide +kernel⟩ ⟨by decide, by decide⟩ rfl rfl (Nat.le_of_ble_eq_true rfl) dX6_passesCheck_102 (fun v9 u_13 hp => ?_)
  obtain ⟨rfl, hw⟩ := hp
  refine GK.at (p2 := 105) rfl ?_
  refine gk_aload_n (pc := 105) C.1 0 dX6_passesCheck_105 rfl rfl ?_
  refine gk_aload_n (pc := 106) C.1 0 dX6_passesCheck_106 rfl rfl ?_
  refine tk_getA (pc := 107) C (k := 18) (by decide) (by decide) q2139 rfl dX6_passesCheck_107 ?_
  refine tk_callV (pc := 110) (y := yX6_passes) (n := 1) (As := [.ref (G.2.2.2 18)]) (rest := []) C (wk_passes (ev_l X) hG hw) q2303 q2305 qs68 q2306 ⟨rfl, by decide +kernel⟩ ⟨by decide, by decide⟩ rfl rfl (Nat.le_of_ble_eq_true rfl) dX6_passesCheck_110 (fun v9 u_14 hp => ?_)
  obtain ⟨rfl, hw⟩ := hp
  refine GK.at (p2 := 113) rfl ?_
  refine gk_aload_n (pc := 113) C.1 0 dX6_passesCheck_113 rfl rfl ?_
  refine gk_aload_n (pc := 114) C.1 0 dX6_passesCheck_114 rfl rfl ?_
  refine tk_getA (pc := 115) C (k := 19) (by decide) (by decide) q2140 rfl dX6_passesCheck_115 ?_
  refine tk_callV (pc := 118) (y := yX6_passes) (n := 1) (As := [.ref (G.2.2.2 19)]) (rest := []) C (wk_passes (ev_l X) hG hw) q2303 q2305 qs68 q2306 ⟨rfl, by decide +kernel⟩ ⟨by decide, by decide⟩ rfl rfl (Nat.le_of_ble_eq_true rfl) dX6_passesCheck_118 (fun v9 u_15 hp => ?_)
  obtain ⟨rfl, hw⟩ := hp
  refine GK.at (p2 := 121) rfl ?_
  refine gk_aload_n (pc := 121) C.1 0 dX6_passesCheck_121 rfl rfl ?_
  refine gk_aload_n (pc := 122) C.1 0 dX6_passesCheck_122 rfl rfl ?_
  refine gk_aload_n (pc := 123) C.1 0 dX6_passesCheck_123 rfl rfl ?_
  refine tk_getI (pc := 124) C (k := 20) (by decide) (by decide) q2141 rfl dX6_passesCheck_124 ?_
  refine tk_callV (pc := 127) (y := yX6_passOne) (n := 1) (As := [.int (u_15.2 20)]) (rest := [.ref G.2.2.1]) C (wk_passOne (ev_l X) hG hw) q2307 q2309 qs69 q2310 ⟨rfl, by decide +kernel⟩ ⟨by decide, by decide⟩ rfl rfl (Nat.le_of_ble_eq_true rfl) dX6_passesCheck_127 (fun v9 u_16 hp => ?_)
  obtain ⟨r_17, rfl, hw⟩ := hp
  refine GK.at (p2 := 130) rfl ?_
  refine tk_putI (pc := 130) C (k := 20) (by decide) (by decide) q2141 rfl rfl (ty := .int) rfl rfl rfl dX6_passesCheck_130 (fun u_18 eu_18 => ?_)
  replace hw := hw u_18 eu_18
  refine gk_aload_n (pc := 133) C.1 0 dX6_passesCheck_133 rfl rfl ?_
  refine gk_aload_n (pc := 134) C.1 0 dX6_passesCheck_134 rfl rfl ?_
  refine gk_aload_n (pc := 135) C.1 0 dX6_passesCheck_135 rfl rfl ?_
  refine tk_getI (pc := 136) C (k := 21) (by decide) (by decide) q2142 rfl dX6_passesCheck_136 ?_
  refine tk_callV (pc := 139) (y := yX6_passOne) (n := 1) (As := [.int (u_18.2 21)]) (rest := [.ref G.2.2.1]) C (wk_passOne (ev_l X) hG hw) q2307 q2309 qs69 q2310 ⟨rfl, by decide +kernel⟩ ⟨by decide, by decide⟩ rfl rfl (Nat.le_of_ble_eq_true rfl) dX6_passesCheck_139 (fun v9 u_19 hp => ?_)
  obtain ⟨r_20, rfl, hw⟩ := hp
  refine GK.at (p2 := 142) rfl ?_
  refine tk_putI (pc := 142) C (k := 21) (by decide) (by decide) q2142 rfl rfl (ty := .int) rfl rfl rfl dX6_passesCheck_142 (fun u_21 eu_21 => ?_)
  replace hw := hw u_21 eu_21
  refine gk_aload_n (pc := 145) C.1 0 dX6_passesCheck_145 rfl rfl ?_
  refine gk_aload_n (pc := 146) C.1 0 dX6_passesCheck_146 rfl rfl ?_
  refine gk_aload_n (pc := 147) C.1 0 dX6_passesCheck_147 rfl rfl ?_
  refine tk_getI (pc := 148) C (k := 22) (by decide) (by decide) q2143 rfl dX6_passesCheck_148 ?_
  refine tk_callV (pc := 151) (y := yX6_passOne) (n := 1) (As := [.int (u_21.2 22)]) (rest := [.ref G.2.2.1]) C (wk_passOne (ev_l X) hG hw) q2307 q2309 qs69 q2310 ⟨rfl, by decide +kernel⟩ ⟨by decide, by decide⟩ rfl rfl (Nat.le_of_ble_eq_true rfl) dX6_passesCheck_151 (fun v9 u_22 hp => ?_)
  obtain ⟨r_23, rfl, hw⟩ := hp
  refine GK.at (p2 := 154) rfl ?_
  refine tk_putI (pc := 154) C (k := 22) (by decide) (by decide) q2143 rfl rfl (ty := .int) rfl rfl rfl dX6_passesCheck_154 (fun u_24 eu_24 => ?_)
  replace hw := hw u_24 eu_24
  exact tk_vret (pc := 157) C hret dX6_passesCheck_157 hw
