set_option maxRecDepth 100000
/-! toldAt(I)I -/
def wt_toldAt (k : Int32 → TS → Prop) (x1 : Int32) (u : TS) : Prop := wt_isIn (fun r_2 u_1 => ((r_2 = 0 → (k (-9) u_1)) ∧ (¬ r_2 = 0 → (vp_in x1 16384 ∧ (vp_in x1 16384 ∧ (k ((100 * (u_1.1 24 x1.toNatClampNeg)) + (u_1.1 25 x1.toNatClampNeg)) u_1)))))) x1 0 ((u.2 33) - 1) u
theorem wk_toldAt (l : Launch) {G : TG} (hG : TD G) {k : Int32 → TS → Prop} {x1 : Int32} {u : TS} (hw : wt_toldAt k x1 u) : TMet l yX6_toldAt cX6_toldAt 2 (some .int) 2 G [.ref G.2.2.1, .int x1] u (tI k) := by
  refine tk_met hG rfl (Nat.le_of_ble_eq_true rfl) (fun X hXl hXn hret C => ?_)
  subst hXl
  unfold wt_toldAt at hw
  refine GK.sub (lv' := [(0, .ref G.2.2.1), (1, .int x1)]) [0, 1] rfl ?_
  refine gk_iload_n (pc := 0) C.1 1 dX6_toldAt_0 rfl rfl ?_
  refine gk_iconst (pc := 1) (v := 0) C.1 dX6_toldAt_1 (by decide) ?_
  refine gk_aload_n (pc := 2) C.1 0 dX6_toldAt_2 rfl rfl ?_
  refine tk_getI (pc := 3) C (k := 33) (by decide) (by decide) q2154 rfl dX6_toldAt_3 ?_
  refine gk_iconst (pc := 6) (v := 1) C.1 dX6_toldAt_6 (by decide) ?_
  refine gk_isub (pc := 7) C.1 dX6_toldAt_7 ?_
  refine tk_callS (pc := 8) (y := yX6_isIn) (n := 3) (As := [.int x1, .int 0, .int ((u.2 33) - 1)]) (rest := []) C (wk_isIn (ev_l X) hG hw) q2323 q2324 q2325 ⟨rfl, by decide +kernel⟩ ⟨by decide, by decide⟩ rfl rfl (Nat.le_of_ble_eq_true rfl) dX6_toldAt_8 (fun v9 u_1 hp => ?_)
  obtain ⟨r_2, rfl, hw⟩ := hp
  refine GK.at (p2 := 11) rfl ?_
  refine gk_if_eq (pc := 11) (tgt := 33) C.1 dX6_toldAt_11 (by decide) (fun c_3 => ?_) (fun c_3 => ?_)
  · replace hw := hw.1 c_3
    refine gk_bipush (pc := 33) (v := (-9)) C.1 dX6_toldAt_33 (by decide) ?_
    exact tk_iret (pc := 35) C hret dX6_toldAt_35 hw
  · replace hw := hw.2 c_3
    refine gk_bipush (pc := 14) (v := 100) C.1 dX6_toldAt_14 (by decide) ?_
    refine gk_aload_n (pc := 16) C.1 0 dX6_toldAt_16 rfl rfl ?_
    refine tk_getA (pc := 17) C (k := 24) (by decide) (by decide) q2145 rfl dX6_toldAt_17 ?_
    refine gk_iload_n (pc := 20) C.1 1 dX6_toldAt_20 rfl rfl ?_
    obtain ⟨hi, hw⟩ := hw
    refine tk_ald (pc := 21) C (k := 24) (by decide) hi dX6_toldAt_21 ?_
    refine gk_imul (pc := 22) C.1 dX6_toldAt_22 ?_
    refine gk_aload_n (pc := 23) C.1 0 dX6_toldAt_23 rfl rfl ?_
    refine tk_getA (pc := 24) C (k := 25) (by decide) (by decide) q2146 rfl dX6_toldAt_24 ?_
    refine gk_iload_n (pc := 27) C.1 1 dX6_toldAt_27 rfl rfl ?_
    obtain ⟨hi, hw⟩ := hw
    refine tk_ald (pc := 28) C (k := 25) (by decide) hi dX6_toldAt_28 ?_
    refine gk_iadd (pc := 29) C.1 dX6_toldAt_29 ?_
    refine gk_goto (pc := 30) (tgt := 35) C.1 dX6_toldAt_30 (by decide) ?_
    exact tk_iret (pc := 35) C hret dX6_toldAt_35 hw
/-! first()I -/
def wt_first (k : Int32 → TS → Prop) (u : TS) : Prop := wt_findFaults (fun u_1 => wt_toldAt (fun r_3 u_2 => k r_3 u_2) 0 u_1) u
theorem wk_first (l : Launch) {G : TG} (hG : TD G) {k : Int32 → TS → Prop} {u : TS} (hw : wt_first k  u) : TMet l yX6_first cX6_first 1 (some .int) 9 G [.ref G.2.2.1] u (tI k) := by
  refine tk_met hG rfl (Nat.le_of_ble_eq_true rfl) (fun X hXl hXn hret C => ?_)
  subst hXl
  unfold wt_first at hw
  refine GK.sub (lv' := [(0, .ref G.2.2.1)]) [0] rfl ?_
  refine gk_aload_n (pc := 0) C.1 0 dX6_first_0 rfl rfl ?_
  refine tk_callV (pc := 1) (y := yX6_findFaults) (n := 0) (As := []) (rest := []) C (wk_findFaults (ev_l X) hG hw) q2461 q2463 qs98 q2464 ⟨rfl, by decide +kernel⟩ ⟨by decide, by decide⟩ rfl rfl (Nat.le_of_ble_eq_true rfl) dX6_first_1 (fun v9 u_1 hp => ?_)
  obtain ⟨rfl, hw⟩ := hp
  refine GK.at (p2 := 4) rfl ?_
  refine gk_aload_n (pc := 4) C.1 0 dX6_first_4 rfl rfl ?_
  refine gk_iconst (pc := 5) (v := 0) C.1 dX6_first_5 (by decide) ?_
  refine tk_callV (pc := 6) (y := yX6_toldAt) (n := 1) (As := [.int 0]) (rest := []) C (wk_toldAt (ev_l X) hG hw) q2588 q2590 qs123 q2591 ⟨rfl, by decide +kernel⟩ ⟨by decide, by decide⟩ rfl rfl (Nat.le_of_ble_eq_true rfl) dX6_first_6 (fun v9 u_2 hp => ?_)
  obtain ⟨r_3, rfl, hw⟩ := hp
  refine GK.at (p2 := 9) rfl ?_
  exact tk_iret (pc := 9) C hret dX6_first_9 hw
/-! image()I -/
def wt_image (k : Int32 → TS → Prop) (u : TS) : Prop := ∀ u_1 : TS, u_1 = tpI u 48 1 → (wt_passesValue (fun u_2 => wt_passesCheck (fun u_3 => k (u_3.2 6) u_3) 0 1 u_2) 0 1 u_1)
theorem wk_image (l : Launch) {G : TG} (hG : TD G) {k : Int32 → TS → Prop} {u : TS} (hw : wt_image k  u) : TMet l yX6_image cX6_image 1 (some .int) 5 G [.ref G.2.2.1] u (tI k) := by
  refine tk_met hG rfl (Nat.le_of_ble_eq_true rfl) (fun X hXl hXn hret C => ?_)
  subst hXl
  unfold wt_image at hw
  refine GK.sub (lv' := [(0, .ref G.2.2.1)]) [0] rfl ?_
  refine gk_aload_n (pc := 0) C.1 0 dX6_image_0 rfl rfl ?_
  refine gk_iconst (pc := 1) (v := 1) C.1 dX6_image_1 (by decide) ?_
  refine tk_putI (pc := 2) C (k := 48) (by decide) (by decide) q2169 rfl rfl (ty := .boolean) rfl (bz_nar bz1) (bz_fit bz1) dX6_image_2 (fun u_1 eu_1 => ?_)
  replace hw := hw u_1 eu_1
  refine gk_aload_n (pc := 5) C.1 0 dX6_image_5 rfl rfl ?_
  refine gk_iconst (pc := 6) (v := 0) C.1 dX6_image_6 (by decide) ?_
  refine gk_iconst (pc := 7) (v := 1) C.1 dX6_image_7 (by decide) ?_
  refine tk_callV (pc := 8) (y := yX6_passesValue) (n := 2) (As := [.int 0, .int 1]) (rest := []) C (wk_passesValue (ev_l X) hG hw) q2299 q2301 qs67 q2302 ⟨rfl, by decide +kernel⟩ ⟨by decide, by decide⟩ rfl rfl (Nat.le_of_ble_eq_true rfl) dX6_image_8 (fun v9 u_2 hp => ?_)
  obtain ⟨rfl, hw⟩ := hp
  refine GK.at (p2 := 11) rfl ?_
  refine gk_aload_n (pc := 11) C.1 0 dX6_image_11 rfl rfl ?_
  refine gk_iconst (pc := 12) (v := 0) C.1 dX6_image_12 (by decide) ?_
  refine gk_iconst (pc := 13) (v := 1) C.1 dX6_image_13 (by decide) ?_
  refine tk_callV (pc := 14) (y := yX6_passesCheck) (n := 2) (As := [.int 0, .int 1]) (rest := []) C (wk_passesCheck (ev_l X) hG hw) q2373 q2375 qs83 q2376 ⟨rfl, by decide +kernel⟩ ⟨by decide, by decide⟩ rfl rfl (Nat.le_of_ble_eq_true rfl) dX6_image_14 (fun v9 u_3 hp => ?_)
  obtain ⟨rfl, hw⟩ := hp
  refine GK.at (p2 := 17) rfl ?_
  refine gk_aload_n (pc := 17) C.1 0 dX6_image_17 rfl rfl ?_
  refine tk_getI (pc := 18) C (k := 6) (by decide) (by decide) q2127 rfl dX6_image_18 ?_
  exact tk_iret (pc := 21) C hret dX6_image_21 hw
/-! isCodedSo()Z -/
def wt_isCodedSo_2 (k : Int32 → TS → Prop) : Nat → Int32 → TS → Prop
  | 0 => fun _ _ => False
  | n + 1 => fun x1 u => (((u.2 52) ≤ x1 → (k 1 u)) ∧ (¬ (u.2 52) ≤ x1 → ((((u.2 33) ≤ x1 → (k 0 u)) ∧ (¬ (u.2 33) ≤ x1 → (vp_in x1 16384 ∧ (vp_in x1 32 ∧ ((((u.1 25 x1.toNatClampNeg) = (u.1 51 x1.toNatClampNeg) → (∀ x_4 : Int32, x_4 = x1 + 1 → (wt_isCodedSo_2 k n x_4 u))) ∧ (¬ (u.1 25 x1.toNatClampNeg) = (u.1 51 x1.toNatClampNeg) → (k 0 u)))))))))))
theorem kt_isCodedSo_2 {X : Ev} {G : TG} {k : Int32 → TS → Prop} (C : TC X G cX6_isCodedSo 1) (hG : TD G) (hret : (ev_h X).sig.returnType = some .boolean) (hXn : ev_n X = 2) : ∀ (n : Nat) (x1 : Int32) (u : TS), wt_isCodedSo_2 k n x1 u → GK X (TP G u) 0 0 (tQ X G (tI k)) 2 [(0, .ref G.2.2.1), (1, .int x1)] [] := by
  intro n
  induction n with
  | zero => intro x1 u hw; exact hw.elim
  | succ n ih =>
  intro x1 u hw
  unfold wt_isCodedSo_2 at hw
  refine gk_iload_n (pc := 2) C.1 1 dX6_isCodedSo_2 rfl rfl ?_
  refine gk_aload_n (pc := 3) C.1 0 dX6_isCodedSo_3 rfl rfl ?_
  refine tk_getI (pc := 4) C (k := 52) (by decide) (by decide) q2173 rfl dX6_isCodedSo_4 ?_
  refine gk_icmp_ge (pc := 7) (tgt := 41) C.1 dX6_isCodedSo_7 (by decide) (fun c_1 => ?_) (fun c_1 => ?_)
  · replace hw := hw.1 c_1
    refine gk_iconst (pc := 41) (v := 1) C.1 dX6_isCodedSo_41 (by decide) ?_
    exact tk_zret (pc := 42) C hret dX6_isCodedSo_42 bz1 hw
  · replace hw := hw.2 c_1
    refine gk_iload_n (pc := 10) C.1 1 dX6_isCodedSo_10 rfl rfl ?_
    refine gk_aload_n (pc := 11) C.1 0 dX6_isCodedSo_11 rfl rfl ?_
    refine tk_getI (pc := 12) C (k := 33) (by decide) (by decide) q2154 rfl dX6_isCodedSo_12 ?_
    refine gk_icmp_ge (pc := 15) (tgt := 33) C.1 dX6_isCodedSo_15 (by decide) (fun c_2 => ?_) (fun c_2 => ?_)
    · replace hw := hw.1 c_2
      refine gk_iconst (pc := 33) (v := 0) C.1 dX6_isCodedSo_33 (by decide) ?_
      exact tk_zret (pc := 34) C hret dX6_isCodedSo_34 bz0 hw
    · replace hw := hw.2 c_2
      refine gk_aload_n (pc := 18) C.1 0 dX6_isCodedSo_18 rfl rfl ?_
      refine tk_getA (pc := 19) C (k := 25) (by decide) (by decide) q2146 rfl dX6_isCodedSo_19 ?_
      refine gk_iload_n (pc := 22) C.1 1 dX6_isCodedSo_22 rfl rfl ?_
      obtain ⟨hi, hw⟩ := hw
      refine tk_ald (pc := 23) C (k := 25) (by decide) hi dX6_isCodedSo_23 ?_
      refine gk_aload_n (pc := 24) C.1 0 dX6_isCodedSo_24 rfl rfl ?_
      refine tk_getA (pc := 25) C (k := 51) (by decide) (by decide) q2172 rfl dX6_isCodedSo_25 ?_
      refine gk_iload_n (pc := 28) C.1 1 dX6_isCodedSo_28 rfl rfl ?_
      obtain ⟨hi, hw⟩ := hw
      refine tk_ald (pc := 29) C (k := 51) (by decide) hi dX6_isCodedSo_29 ?_
      refine gk_icmp_eq (pc := 30) (tgt := 35) C.1 dX6_isCodedSo_30 (by decide) (fun c_3 => ?_) (fun c_3 => ?_)
      · replace hw := hw.1 c_3
        obtain ⟨x_4, ex_4⟩ : ∃ z : Int32, z = x1 + 1 := ⟨_, rfl⟩
        replace hw := hw x_4 ex_4
        refine gk_iinc (pc := 35) (v := x_4) (lv' := [(1, Value.int x_4), (0, Value.ref G.2.2.1)]) C.1 1 dX6_isCodedSo_35 rfl (by rw [ex_4]; rfl) (by rw [hXn]; decide) rfl ?_
        refine gk_goto (pc := 38) (tgt := 2) C.1 dX6_isCodedSo_38 (by decide) ?_
        refine GK.sub (lv' := [(0, .ref G.2.2.1), (1, .int x_4)]) [1, 0] rfl ?_
        exact ih _ _ hw
      · replace hw := hw.2 c_3
        refine gk_iconst (pc := 33) (v := 0) C.1 dX6_isCodedSo_33 (by decide) ?_
        exact tk_zret (pc := 34) C hret dX6_isCodedSo_34 bz0 hw
def wt_isCodedSo (k : Int32 → TS → Prop) (u : TS) : Prop := ∃ fu : Nat, wt_isCodedSo_2 k fu 0 u
theorem wk_isCodedSo (l : Launch) {G : TG} (hG : TD G) {k : Int32 → TS → Prop} {u : TS} (hw : wt_isCodedSo k  u) : TMet l yX6_isCodedSo cX6_isCodedSo 2 (some .boolean) 1 G [.ref G.2.2.1] u (tI k) := by
  refine tk_met hG rfl (Nat.le_of_ble_eq_true rfl) (fun X hXl hXn hret C => ?_)
  subst hXl
  unfold wt_isCodedSo at hw
  refine GK.sub (lv' := [(0, .ref G.2.2.1)]) [0] rfl ?_
  refine gk_iconst (pc := 0) (v := 0) C.1 dX6_isCodedSo_0 (by decide) ?_
  refine gk_istore_n (pc := 1) (lv' := [(1, Value.int 0), (0, Value.ref G.2.2.1)]) C.1 dX6_isCodedSo_1 rfl (by rw [hXn]; decide) rfl ?_
  refine GK.sub (lv' := [(0, .ref G.2.2.1), (1, .int 0)]) [1, 0] rfl ?_
  obtain ⟨n9, hw⟩ := hw
  exact kt_isCodedSo_2 C hG hret hXn  n9 _ _ hw
/-! judge()I -/
def wt_judge_16 (k : Int32 → TS → Prop) : Nat → Int32 → Int32 → TS → Prop
  | 0 => fun _ _ _ => False
  | n + 1 => fun x1 x2 u => ((x1 ≤ x2 → ((((u.2 33) ≤ x1 → (k (-9) u)) ∧ (¬ (u.2 33) ≤ x1 → (k x1 u))))) ∧ (¬ x1 ≤ x2 → ((((u.2 33) ≤ x2 → (k x2 u)) ∧ (¬ (u.2 33) ≤ x2 → (vp_in x2 16384 ∧ (vp_in x2 32 ∧ ((((u.1 25 x2.toNatClampNeg) = (u.1 51 x2.toNatClampNeg) → (∀ x_5 : Int32, x_5 = x2 + 1 → (wt_judge_16 k n x1 x_5 u))) ∧ (¬ (u.1 25 x2.toNatClampNeg) = (u.1 51 x2.toNatClampNeg) → (k x2 u)))))))))))
theorem kt_judge_16 {X : Ev} {G : TG} {k : Int32 → TS → Prop} (C : TC X G cX6_judge 9) (hG : TD G) (hret : (ev_h X).sig.returnType = some .int) (hXn : ev_n X = 3) : ∀ (n : Nat) (x1 : Int32) (x2 : Int32) (u : TS), wt_judge_16 k n x1 x2 u → GK X (TP G u) 0 0 (tQ X G (tI k)) 16 [(0, .ref G.2.2.1), (1, .int x1), (2, .int x2)] [] := by
  intro n
  induction n with
  | zero => intro x1 x2 u hw; exact hw.elim
  | succ n ih =>
  intro x1 x2 u hw
  unfold wt_judge_16 at hw
  refine gk_iload_n (pc := 16) C.1 2 dX6_judge_16 rfl rfl ?_
  refine gk_iload_n (pc := 17) C.1 1 dX6_judge_17 rfl rfl ?_
  refine gk_icmp_ge (pc := 18) (tgt := 52) C.1 dX6_judge_18 (by decide) (fun c_1 => ?_) (fun c_1 => ?_)
  · replace hw := hw.1 c_1
    refine gk_iload_n (pc := 52) C.1 1 dX6_judge_52 rfl rfl ?_
    refine gk_aload_n (pc := 53) C.1 0 dX6_judge_53 rfl rfl ?_
    refine tk_getI (pc := 54) C (k := 33) (by decide) (by decide) q2154 rfl dX6_judge_54 ?_
    refine gk_icmp_ge (pc := 57) (tgt := 64) C.1 dX6_judge_57 (by decide) (fun c_2 => ?_) (fun c_2 => ?_)
    · replace hw := hw.1 c_2
      refine gk_bipush (pc := 64) (v := (-9)) C.1 dX6_judge_64 (by decide) ?_
      exact tk_iret (pc := 66) C hret dX6_judge_66 hw
    · replace hw := hw.2 c_2
      refine gk_iload_n (pc := 60) C.1 1 dX6_judge_60 rfl rfl ?_
      refine gk_goto (pc := 61) (tgt := 66) C.1 dX6_judge_61 (by decide) ?_
      exact tk_iret (pc := 66) C hret dX6_judge_66 hw
  · replace hw := hw.2 c_1
    refine gk_iload_n (pc := 21) C.1 2 dX6_judge_21 rfl rfl ?_
    refine gk_aload_n (pc := 22) C.1 0 dX6_judge_22 rfl rfl ?_
    refine tk_getI (pc := 23) C (k := 33) (by decide) (by decide) q2154 rfl dX6_judge_23 ?_
    refine gk_icmp_ge (pc := 26) (tgt := 44) C.1 dX6_judge_26 (by decide) (fun c_3 => ?_) (fun c_3 => ?_)
    · replace hw := hw.1 c_3
      refine gk_iload_n (pc := 44) C.1 2 dX6_judge_44 rfl rfl ?_
      exact tk_iret (pc := 45) C hret dX6_judge_45 hw
    · replace hw := hw.2 c_3
      refine gk_aload_n (pc := 29) C.1 0 dX6_judge_29 rfl rfl ?_
      refine tk_getA (pc := 30) C (k := 25) (by decide) (by decide) q2146 rfl dX6_judge_30 ?_
      refine gk_iload_n (pc := 33) C.1 2 dX6_judge_33 rfl rfl ?_
      obtain ⟨hi, hw⟩ := hw
      refine tk_ald (pc := 34) C (k := 25) (by decide) hi dX6_judge_34 ?_
      refine gk_aload_n (pc := 35) C.1 0 dX6_judge_35 rfl rfl ?_
      refine tk_getA (pc := 36) C (k := 51) (by decide) (by decide) q2172 rfl dX6_judge_36 ?_
      refine gk_iload_n (pc := 39) C.1 2 dX6_judge_39 rfl rfl ?_
      obtain ⟨hi, hw⟩ := hw
      refine tk_ald (pc := 40) C (k := 51) (by decide) hi dX6_judge_40 ?_
      refine gk_icmp_eq (pc := 41) (tgt := 46) C.1 dX6_judge_41 (by decide) (fun c_4 => ?_) (fun c_4 => ?_)
      · replace hw := hw.1 c_4
        obtain ⟨x_5, ex_5⟩ : ∃ z : Int32, z = x2 + 1 := ⟨_, rfl⟩
        replace hw := hw x_5 ex_5
        refine gk_iinc (pc := 46) (v := x_5) (lv' := [(2, Value.int x_5), (0, Value.ref G.2.2.1), (1, Value.int x1)]) C.1 2 dX6_judge_46 rfl (by rw [ex_5]; rfl) (by rw [hXn]; decide) rfl ?_
        refine gk_goto (pc := 49) (tgt := 16) C.1 dX6_judge_49 (by decide) ?_
        refine GK.sub (lv' := [(0, .ref G.2.2.1), (1, .int x1), (2, .int x_5)]) [1, 2, 0] rfl ?_
        exact ih _ _ _ hw
      · replace hw := hw.2 c_4
        refine gk_iload_n (pc := 44) C.1 2 dX6_judge_44 rfl rfl ?_
        exact tk_iret (pc := 45) C hret dX6_judge_45 hw
def wt_judge (k : Int32 → TS → Prop) (u : TS) : Prop := ∀ x_1 : Int32, x_1 = u.2 52 → (∀ u_2 : TS, u_2 = tpI u 52 0 → (wt_findFaults (fun u_3 => ∃ fu : Nat, wt_judge_16 k fu x_1 0 u_3) u_2))
theorem wk_judge (l : Launch) {G : TG} (hG : TD G) {k : Int32 → TS → Prop} {u : TS} (hw : wt_judge k  u) : TMet l yX6_judge cX6_judge 3 (some .int) 9 G [.ref G.2.2.1] u (tI k) := by
  refine tk_met hG rfl (Nat.le_of_ble_eq_true rfl) (fun X hXl hXn hret C => ?_)
  subst hXl
  unfold wt_judge at hw
  refine GK.sub (lv' := [(0, .ref G.2.2.1)]) [0] rfl ?_
  refine gk_aload_n (pc := 0) C.1 0 dX6_judge_0 rfl rfl ?_
  refine tk_getI (pc := 1) C (k := 52) (by decide) (by decide) q2173 rfl dX6_judge_1 ?_
  obtain ⟨x_1, ex_1⟩ : ∃ z : Int32, z = u.2 52 := ⟨_, rfl⟩
  rw [← ex_1]
  replace hw := hw x_1 ex_1
  refine gk_istore_n (pc := 4) (lv' := [(1, Value.int x_1), (0, Value.ref G.2.2.1)]) C.1 dX6_judge_4 rfl (by rw [hXn]; decide) rfl ?_
  refine gk_aload_n (pc := 5) C.1 1 dX6_judge_5 rfl rfl ?_
  refine gk_iconst (pc := 6) (v := 0) C.1 dX6_judge_6 (by decide) ?_
  refine tk_putI (pc := 7) C (k := 52) (by decide) (by decide) q2173 rfl rfl (ty := .int) rfl rfl rfl dX6_judge_7 (fun u_2 eu_2 => ?_)
  replace hw := hw u_2 eu_2
  refine gk_aload_n (pc := 10) C.1 1 dX6_judge_10 rfl rfl ?_
  refine tk_callV (pc := 11) (y := yX6_findFaults) (n := 0) (As := []) (rest := []) C (wk_findFaults (ev_l X) hG hw) q2461 q2463 qs98 q2464 ⟨rfl, by decide +kernel⟩ ⟨by decide, by decide⟩ rfl rfl (Nat.le_of_ble_eq_true rfl) dX6_judge_11 (fun v9 u_3 hp => ?_)
  obtain ⟨rfl, hw⟩ := hp
  refine GK.at (p2 := 14) rfl ?_
  refine gk_iconst (pc := 14) (v := 0) C.1 dX6_judge_14 (by decide) ?_
  refine gk_istore_n (pc := 15) (lv' := [(2, Value.int 0), (1, Value.int x_1), (0, Value.ref G.2.2.1)]) C.1 dX6_judge_15 rfl (by rw [hXn]; decide) rfl ?_
  refine GK.sub (lv' := [(0, .ref G.2.2.1), (1, .int x_1), (2, .int 0)]) [2, 1, 0] rfl ?_
  obtain ⟨n9, hw⟩ := hw
  exact kt_judge_16 C hG hret hXn  n9 _ _ _ hw
/-! leavesOut(I)V -/
def wt_leavesOut (k : TS → Prop) (x1 : Int32) (u : TS) : Prop := vp_in x1 21 ∧ (wt_partAt (fun r_2 u_1 => vp_in r_2 21 ∧ (vp_in r_2 21 ∧ (∀ u_3 : TS, u_3 = tpA u_1 2 r_2.toNatClampNeg ((u_1.1 2 r_2.toNatClampNeg) - 1) → (vp_in x1 21 ∧ (wt_takesOut (fun u_4 => wt_measures (fun u_5 => k u_5) u_4) x1 (u_3.1 4 x1.toNatClampNeg) u_3))))) ((u.1 5 x1.toNatClampNeg) / 10) u)
theorem wk_leavesOut (l : Launch) {G : TG} (hG : TD G) {k : TS → Prop} {x1 : Int32} {u : TS} (hw : wt_leavesOut k x1 u) : TMet l yX6_leavesOut cX6_leavesOut 2 (none) 4 G [.ref G.2.2.1, .int x1] u (tV k) := by
  refine tk_met hG rfl (Nat.le_of_ble_eq_true rfl) (fun X hXl hXn hret C => ?_)
  subst hXl
  unfold wt_leavesOut at hw
  refine GK.sub (lv' := [(0, .ref G.2.2.1), (1, .int x1)]) [0, 1] rfl ?_
  refine gk_aload_n (pc := 0) C.1 0 dX6_leavesOut_0 rfl rfl ?_
  refine tk_getA (pc := 1) C (k := 2) (by decide) (by decide) q2123 rfl dX6_leavesOut_1 ?_
  refine gk_aload_n (pc := 4) C.1 0 dX6_leavesOut_4 rfl rfl ?_
  refine gk_aload_n (pc := 5) C.1 0 dX6_leavesOut_5 rfl rfl ?_
  refine tk_getA (pc := 6) C (k := 5) (by decide) (by decide) q2126 rfl dX6_leavesOut_6 ?_
  refine gk_iload_n (pc := 9) C.1 1 dX6_leavesOut_9 rfl rfl ?_
  obtain ⟨hi, hw⟩ := hw
  refine tk_ald (pc := 10) C (k := 5) (by decide) hi dX6_leavesOut_10 ?_
  refine gk_bipush (pc := 11) (v := 10) C.1 dX6_leavesOut_11 (by decide) ?_
  refine gk_idiv (pc := 13) C.1 dX6_leavesOut_13 (by decide) ?_
  refine tk_callV (pc := 14) (y := yX6_partAt) (n := 1) (As := [.int ((u.1 5 x1.toNatClampNeg) / 10)]) (rest := [.ref (G.2.2.2 2)]) C (wk_partAt (ev_l X) hG hw) q2429 q2431 qs94 q2432 ⟨rfl, by decide +kernel⟩ ⟨by decide, by decide⟩ rfl rfl (Nat.le_of_ble_eq_true rfl) dX6_leavesOut_14 (fun v9 u_1 hp => ?_)
  obtain ⟨r_2, rfl, hw⟩ := hp
  refine GK.at (p2 := 17) rfl ?_
  refine gk_dup2 (pc := 17) C.1 dX6_leavesOut_17 rfl rfl ?_
  obtain ⟨hi, hw⟩ := hw
  refine tk_ald (pc := 18) C (k := 2) (by decide) hi dX6_leavesOut_18 ?_
  refine gk_iconst (pc := 19) (v := 1) C.1 dX6_leavesOut_19 (by decide) ?_
  refine gk_isub (pc := 20) C.1 dX6_leavesOut_20 ?_
  obtain ⟨hi, hw⟩ := hw
  refine tk_ast (pc := 21) C (k := 2) (by decide) hi dX6_leavesOut_21 (fun u_3 eu_3 => ?_)
  replace hw := hw u_3 eu_3
  refine gk_aload_n (pc := 22) C.1 0 dX6_leavesOut_22 rfl rfl ?_
  refine gk_iload_n (pc := 23) C.1 1 dX6_leavesOut_23 rfl rfl ?_
  refine gk_aload_n (pc := 24) C.1 0 dX6_leavesOut_24 rfl rfl ?_
  refine tk_getA (pc := 25) C (k := 4) (by decide) (by decide) q2125 rfl dX6_leavesOut_25 ?_
  refine gk_iload_n (pc := 28) C.1 1 dX6_leavesOut_28 rfl rfl ?_
  obtain ⟨hi, hw⟩ := hw
  refine tk_ald (pc := 29) C (k := 4) (by decide) hi dX6_leavesOut_29 ?_
  refine tk_callV (pc := 30) (y := yX6_takesOut) (n := 2) (As := [.int x1, .int (u_3.1 4 x1.toNatClampNeg)]) (rest := []) C (wk_takesOut (ev_l X) hG hw) q2445 q2447 qs96 q2448 ⟨rfl, by decide +kernel⟩ ⟨by decide, by decide⟩ rfl rfl (Nat.le_of_ble_eq_true rfl) dX6_leavesOut_30 (fun v9 u_4 hp => ?_)
  obtain ⟨rfl, hw⟩ := hp
  refine GK.at (p2 := 33) rfl ?_
  refine gk_aload_n (pc := 33) C.1 0 dX6_leavesOut_33 rfl rfl ?_
  refine tk_callV (pc := 34) (y := yX6_measures) (n := 0) (As := []) (rest := []) C (wk_measures (ev_l X) hG hw) q2109 q2111 qs63 q2112 ⟨rfl, by decide +kernel⟩ ⟨by decide, by decide⟩ rfl rfl (Nat.le_of_ble_eq_true rfl) dX6_leavesOut_34 (fun v9 u_5 hp => ?_)
  obtain ⟨rfl, hw⟩ := hp
  refine GK.at (p2 := 37) rfl ?_
  exact tk_vret (pc := 37) C hret dX6_leavesOut_37 hw
/-! letter(I)I -/
def wt_letter_25 (k : Int32 → TS → Prop) (x1 : Int32) (x2 : Int32) (u : TS) : Prop := ((x2 = 0 → (vp_in (u.2 42) 96 ∧ (∀ u_2 : TS, u_2 = tpA u 36 (u.2 42).toNatClampNeg x1 → (∀ u_3 : TS, u_3 = tpI u_2 42 ((u_2.2 42) + 1) → (k (u_3.2 42) u_3))))) ∧ (¬ x2 = 0 → (wt_no (fun r_5 u_4 => k r_5 u_4) x2 u)))
theorem kt_letter_25 {X : Ev} {G : TG} {k : Int32 → TS → Prop} (C : TC X G cX6_letter 2) (hG : TD G) (hret : (ev_h X).sig.returnType = some .int) (hXn : ev_n X = 3) : ∀ (x1 : Int32) (x2 : Int32) (u : TS), wt_letter_25 k x1 x2 u → GK X (TP G u) 0 0 (tQ X G (tI k)) 25 [(0, .ref G.2.2.1), (1, .int x1), (2, .int x2)] [] := by
  intro x1 x2 u hw
  unfold wt_letter_25 at hw
  refine gk_iload_n (pc := 25) C.1 2 dX6_letter_25 rfl rfl ?_
  refine gk_if_eq (pc := 26) (tgt := 35) C.1 dX6_letter_26 (by decide) (fun c_1 => ?_) (fun c_1 => ?_)
  · replace hw := hw.1 c_1
    refine gk_aload_n (pc := 35) C.1 0 dX6_letter_35 rfl rfl ?_
    refine tk_getA (pc := 36) C (k := 36) (by decide) (by decide) q2157 rfl dX6_letter_36 ?_
    refine gk_aload_n (pc := 39) C.1 0 dX6_letter_39 rfl rfl ?_
    refine tk_getI (pc := 40) C (k := 42) (by decide) (by decide) q2163 rfl dX6_letter_40 ?_
    refine gk_iload_n (pc := 43) C.1 1 dX6_letter_43 rfl rfl ?_
    obtain ⟨hi, hw⟩ := hw
    refine tk_ast (pc := 44) C (k := 36) (by decide) hi dX6_letter_44 (fun u_2 eu_2 => ?_)
    replace hw := hw u_2 eu_2
    refine gk_aload_n (pc := 45) C.1 0 dX6_letter_45 rfl rfl ?_
    refine gk_dup (pc := 46) C.1 dX6_letter_46 rfl ?_
    refine tk_getI (pc := 47) C (k := 42) (by decide) (by decide) q2163 rfl dX6_letter_47 ?_
    refine gk_iconst (pc := 50) (v := 1) C.1 dX6_letter_50 (by decide) ?_
    refine gk_iadd (pc := 51) C.1 dX6_letter_51 ?_
    refine tk_putI (pc := 52) C (k := 42) (by decide) (by decide) q2163 rfl rfl (ty := .int) rfl rfl rfl dX6_letter_52 (fun u_3 eu_3 => ?_)
    replace hw := hw u_3 eu_3
    refine gk_aload_n (pc := 55) C.1 0 dX6_letter_55 rfl rfl ?_
    refine tk_getI (pc := 56) C (k := 42) (by decide) (by decide) q2163 rfl dX6_letter_56 ?_
    exact tk_iret (pc := 59) C hret dX6_letter_59 hw
  · replace hw := hw.2 c_1
    refine gk_aload_n (pc := 29) C.1 0 dX6_letter_29 rfl rfl ?_
    refine gk_iload_n (pc := 30) C.1 2 dX6_letter_30 rfl rfl ?_
    refine tk_callV (pc := 31) (y := yX6_no) (n := 1) (As := [.int x2]) (rest := []) C (wk_no (ev_l X) hG hw) q2291 q2293 qs66 q2294 ⟨rfl, by decide +kernel⟩ ⟨by decide, by decide⟩ rfl rfl (Nat.le_of_ble_eq_true rfl) dX6_letter_31 (fun v9 u_4 hp => ?_)
    obtain ⟨r_5, rfl, hw⟩ := hp
    refine GK.at (p2 := 34) rfl ?_
    exact tk_iret (pc := 34) C hret dX6_letter_34 hw
def wt_letter (k : Int32 → TS → Prop) (x1 : Int32) (u : TS) : Prop := wt_bound (fun r_2 u_1 => ((¬ r_2 = 0 → (wt_letter_25 k x1 r_2 u_1)) ∧ (r_2 = 0 → (((¬ (u_1.2 42) = 96 → (wt_letter_25 k x1 r_2 u_1)) ∧ ((u_1.2 42) = 96 → (wt_letter_25 k x1 (-6) u_1))))))) x1 0 255 u
theorem wk_letter (l : Launch) {G : TG} (hG : TD G) {k : Int32 → TS → Prop} {x1 : Int32} {u : TS} (hw : wt_letter k x1 u) : TMet l yX6_letter cX6_letter 3 (some .int) 2 G [.ref G.2.2.1, .int x1] u (tI k) := by
  refine tk_met hG rfl (Nat.le_of_ble_eq_true rfl) (fun X hXl hXn hret C => ?_)
  subst hXl
  unfold wt_letter at hw
  refine GK.sub (lv' := [(0, .ref G.2.2.1), (1, .int x1)]) [0, 1] rfl ?_
  refine gk_iload_n (pc := 0) C.1 1 dX6_letter_0 rfl rfl ?_
  refine gk_iconst (pc := 1) (v := 0) C.1 dX6_letter_1 (by decide) ?_
  refine gk_sipush (pc := 2) (v := 255) C.1 dX6_letter_2 (by decide) ?_
  refine tk_callS (pc := 5) (y := yX6_bound) (n := 3) (As := [.int x1, .int 0, .int 255]) (rest := []) C (wk_bound (ev_l X) hG hw) q2288 q2289 q2290 ⟨rfl, by decide +kernel⟩ ⟨by decide, by decide⟩ rfl rfl (Nat.le_of_ble_eq_true rfl) dX6_letter_5 (fun v9 u_1 hp => ?_)
  obtain ⟨r_2, rfl, hw⟩ := hp
  refine GK.at (p2 := 8) rfl ?_
  refine gk_istore_n (pc := 8) (lv' := [(2, Value.int r_2), (0, Value.ref G.2.2.1), (1, Value.int x1)]) C.1 dX6_letter_8 rfl (by rw [hXn]; decide) rfl ?_
  refine gk_iload_n (pc := 9) C.1 0 dX6_letter_9 rfl rfl ?_
  refine gk_if_ne (pc := 10) (tgt := 25) C.1 dX6_letter_10 (by decide) (fun c_3 => ?_) (fun c_3 => ?_)
  · replace hw := hw.1 c_3
    refine GK.sub (lv' := [(0, .ref G.2.2.1), (1, .int x1), (2, .int r_2)]) [1, 2, 0] rfl ?_
    exact kt_letter_25 C hG hret hXn  _ _ _ hw
  · replace hw := hw.2 c_3
    refine gk_aload_n (pc := 13) C.1 1 dX6_letter_13 rfl rfl ?_
    refine tk_getI (pc := 14) C (k := 42) (by decide) (by decide) q2163 rfl dX6_letter_14 ?_
    refine gk_bipush (pc := 17) (v := 96) C.1 dX6_letter_17 (by decide) ?_
    refine gk_icmp_ne (pc := 19) (tgt := 25) C.1 dX6_letter_19 (by decide) (fun c_4 => ?_) (fun c_4 => ?_)
    · replace hw := hw.1 c_4
      refine GK.sub (lv' := [(0, .ref G.2.2.1), (1, .int x1), (2, .int r_2)]) [1, 2, 0] rfl ?_
      exact kt_letter_25 C hG hret hXn  _ _ _ hw
    · replace hw := hw.2 c_4
      refine gk_bipush (pc := 22) (v := (-6)) C.1 dX6_letter_22 (by decide) ?_
      refine gk_istore_n (pc := 24) (lv' := [(2, Value.int (-6)), (0, Value.ref G.2.2.1), (1, Value.int x1)]) C.1 dX6_letter_24 rfl (by rw [hXn]; decide) rfl ?_
      refine GK.sub (lv' := [(0, .ref G.2.2.1), (1, .int x1), (2, .int (-6))]) [1, 2, 0] rfl ?_
      exact kt_letter_25 C hG hret hXn  _ _ _ hw
/-! limited(II)I -/
def wt_limited_50 (k : Int32 → TS → Prop) (x2 : Int32) (s0 : Int32) (u : TS) : Prop := ((¬ x2 = 0 → (wt_toldAt (fun r_3 u_2 => k r_3 u_2) (s0 - 1) u)) ∧ (x2 = 0 → (k s0 u)))
theorem kt_limited_50 {X : Ev} {G : TG} {k : Int32 → TS → Prop} (C : TC X G cX6_limited 10) (hG : TD G) (hret : (ev_h X).sig.returnType = some .int) (hXn : ev_n X = 5) : ∀ (x2 : Int32) (s0 : Int32) (u : TS), wt_limited_50 k x2 s0 u → GK X (TP G u) 0 0 (tQ X G (tI k)) 50 [(0, .ref G.2.2.1), (2, .int x2)] [.int s0] := by
  intro x2 s0 u hw
  unfold wt_limited_50 at hw
  refine gk_istore (pc := 50) (lv' := [(4, Value.int s0), (0, Value.ref G.2.2.1), (2, Value.int x2)]) C.1 dX6_limited_50 (by rw [hXn]; decide) rfl ?_
  refine gk_iload_n (pc := 52) C.1 2 dX6_limited_52 rfl rfl ?_
  refine gk_if_ne (pc := 53) (tgt := 61) C.1 dX6_limited_53 (by decide) (fun c_1 => ?_) (fun c_1 => ?_)
  · replace hw := hw.1 c_1
    refine gk_aload_n (pc := 61) C.1 1 dX6_limited_61 rfl rfl ?_
    refine gk_iload (pc := 62) C.1 0 dX6_limited_62 rfl ?_
    refine gk_iconst (pc := 64) (v := 1) C.1 dX6_limited_64 (by decide) ?_
    refine gk_isub (pc := 65) C.1 dX6_limited_65 ?_
    refine tk_callV (pc := 66) (y := yX6_toldAt) (n := 1) (As := [.int (s0 - 1)]) (rest := []) C (wk_toldAt (ev_l X) hG hw) q2588 q2590 qs123 q2591 ⟨rfl, by decide +kernel⟩ ⟨by decide, by decide⟩ rfl rfl (Nat.le_of_ble_eq_true rfl) dX6_limited_66 (fun v9 u_2 hp => ?_)
    obtain ⟨r_3, rfl, hw⟩ := hp
    refine GK.at (p2 := 69) rfl ?_
    exact tk_iret (pc := 69) C hret dX6_limited_69 hw
  · replace hw := hw.2 c_1
    refine gk_iload (pc := 56) C.1 0 dX6_limited_56 rfl ?_
    refine gk_goto (pc := 58) (tgt := 69) C.1 dX6_limited_58 (by decide) ?_
    exact tk_iret (pc := 69) C hret dX6_limited_69 hw
def wt_limited_24 (k : Int32 → TS → Prop) (x1 : Int32) (x2 : Int32) (x3 : Int32) (u : TS) : Prop := ((x3 = 0 → (wt_manyNow (fun r_3 u_2 => ((x1 ≤ r_3 → (wt_limited_50 k x2 x1 u_2)) ∧ (¬ x1 ≤ r_3 → (wt_limited_50 k x2 (u_2.2 33) u_2)))) u)) ∧ (¬ x3 = 0 → (wt_no (fun r_6 u_5 => k r_6 u_5) x3 u)))
theorem kt_limited_24 {X : Ev} {G : TG} {k : Int32 → TS → Prop} (C : TC X G cX6_limited 10) (hG : TD G) (hret : (ev_h X).sig.returnType = some .int) (hXn : ev_n X = 5) : ∀ (x1 : Int32) (x2 : Int32) (x3 : Int32) (u : TS), wt_limited_24 k x1 x2 x3 u → GK X (TP G u) 0 0 (tQ X G (tI k)) 24 [(0, .ref G.2.2.1), (1, .int x1), (2, .int x2), (3, .int x3)] [] := by
  intro x1 x2 x3 u hw
  unfold wt_limited_24 at hw
  refine gk_iload_n (pc := 24) C.1 3 dX6_limited_24 rfl rfl ?_
  refine gk_if_eq (pc := 25) (tgt := 34) C.1 dX6_limited_25 (by decide) (fun c_1 => ?_) (fun c_1 => ?_)
  · replace hw := hw.1 c_1
    refine gk_aload_n (pc := 34) C.1 0 dX6_limited_34 rfl rfl ?_
    refine tk_callV (pc := 35) (y := yX6_manyNow) (n := 0) (As := []) (rest := []) C (wk_manyNow (ev_l X) hG hw) q2457 q2459 qs97 q2460 ⟨rfl, by decide +kernel⟩ ⟨by decide, by decide⟩ rfl rfl (Nat.le_of_ble_eq_true rfl) dX6_limited_35 (fun v9 u_2 hp => ?_)
    obtain ⟨r_3, rfl, hw⟩ := hp
    refine GK.at (p2 := 38) rfl ?_
    refine gk_iload_n (pc := 38) C.1 1 dX6_limited_38 rfl rfl ?_
    refine gk_icmp_ge (pc := 39) (tgt := 49) C.1 dX6_limited_39 (by decide) (fun c_4 => ?_) (fun c_4 => ?_)
    · replace hw := hw.1 c_4
      refine gk_iload_n (pc := 49) C.1 1 dX6_limited_49 rfl rfl ?_
      refine GK.sub (lv' := [(0, .ref G.2.2.1), (2, .int x2)]) [0, 2] rfl ?_
      exact kt_limited_50 C hG hret hXn  _ _ _ hw
    · replace hw := hw.2 c_4
      refine gk_aload_n (pc := 42) C.1 0 dX6_limited_42 rfl rfl ?_
      refine tk_getI (pc := 43) C (k := 33) (by decide) (by decide) q2154 rfl dX6_limited_43 ?_
      refine gk_goto (pc := 46) (tgt := 50) C.1 dX6_limited_46 (by decide) ?_
      refine GK.sub (lv' := [(0, .ref G.2.2.1), (2, .int x2)]) [0, 2] rfl ?_
      exact kt_limited_50 C hG hret hXn  _ _ _ hw
  · replace hw := hw.2 c_1
    refine gk_aload_n (pc := 28) C.1 0 dX6_limited_28 rfl rfl ?_
    refine gk_iload_n (pc := 29) C.1 3 dX6_limited_29 rfl rfl ?_
    refine tk_callV (pc := 30) (y := yX6_no) (n := 1) (As := [.int x3]) (rest := []) C (wk_no (ev_l X) hG hw) q2291 q2293 qs66 q2294 ⟨rfl, by decide +kernel⟩ ⟨by decide, by decide⟩ rfl rfl (Nat.le_of_ble_eq_true rfl) dX6_limited_30 (fun v9 u_5 hp => ?_)
    obtain ⟨r_6, rfl, hw⟩ := hp
    refine GK.at (p2 := 33) rfl ?_
    exact tk_iret (pc := 33) C hret dX6_limited_33 hw
def wt_limited (k : Int32 → TS → Prop) (x1 : Int32) (x2 : Int32) (u : TS) : Prop := wt_bound (fun r_2 u_1 => ((¬ r_2 = 0 → (wt_limited_24 k x1 x2 r_2 u_1)) ∧ (r_2 = 0 → (wt_isIn (fun r_5 u_4 => ((¬ r_5 = 0 → (wt_limited_24 k x1 x2 r_2 u_4)) ∧ (r_5 = 0 → (wt_limited_24 k x1 x2 (-2) u_4)))) x2 0 1 u_1)))) x1 0 99 u
theorem wk_limited (l : Launch) {G : TG} (hG : TD G) {k : Int32 → TS → Prop} {x1 : Int32} {x2 : Int32} {u : TS} (hw : wt_limited k x1 x2 u) : TMet l yX6_limited cX6_limited 5 (some .int) 10 G [.ref G.2.2.1, .int x1, .int x2] u (tI k) := by
  refine tk_met hG rfl (Nat.le_of_ble_eq_true rfl) (fun X hXl hXn hret C => ?_)
  subst hXl
  unfold wt_limited at hw
  refine GK.sub (lv' := [(0, .ref G.2.2.1), (1, .int x1), (2, .int x2)]) [0, 1, 2] rfl ?_
  refine gk_iload_n (pc := 0) C.1 1 dX6_limited_0 rfl rfl ?_
  refine gk_iconst (pc := 1) (v := 0) C.1 dX6_limited_1 (by decide) ?_
  refine gk_bipush (pc := 2) (v := 99) C.1 dX6_limited_2 (by decide) ?_
  refine tk_callS (pc := 4) (y := yX6_bound) (n := 3) (As := [.int x1, .int 0, .int 99]) (rest := []) C (wk_bound (ev_l X) hG hw) q2288 q2289 q2290 ⟨rfl, by decide +kernel⟩ ⟨by decide, by decide⟩ rfl rfl (Nat.le_of_ble_eq_true rfl) dX6_limited_4 (fun v9 u_1 hp => ?_)
  obtain ⟨r_2, rfl, hw⟩ := hp
  refine GK.at (p2 := 7) rfl ?_
  refine gk_istore_n (pc := 7) (lv' := [(3, Value.int r_2), (0, Value.ref G.2.2.1), (1, Value.int x1), (2, Value.int x2)]) C.1 dX6_limited_7 rfl (by rw [hXn]; decide) rfl ?_
  refine gk_iload_n (pc := 8) C.1 0 dX6_limited_8 rfl rfl ?_
  refine gk_if_ne (pc := 9) (tgt := 24) C.1 dX6_limited_9 (by decide) (fun c_3 => ?_) (fun c_3 => ?_)
  · replace hw := hw.1 c_3
    refine GK.sub (lv' := [(0, .ref G.2.2.1), (1, .int x1), (2, .int x2), (3, .int r_2)]) [1, 2, 3, 0] rfl ?_
    exact kt_limited_24 C hG hret hXn  _ _ _ _ hw
  · replace hw := hw.2 c_3
    refine gk_iload_n (pc := 12) C.1 3 dX6_limited_12 rfl rfl ?_
    refine gk_iconst (pc := 13) (v := 0) C.1 dX6_limited_13 (by decide) ?_
    refine gk_iconst (pc := 14) (v := 1) C.1 dX6_limited_14 (by decide) ?_
    refine tk_callS (pc := 15) (y := yX6_isIn) (n := 3) (As := [.int x2, .int 0, .int 1]) (rest := []) C (wk_isIn (ev_l X) hG hw) q2323 q2324 q2325 ⟨rfl, by decide +kernel⟩ ⟨by decide, by decide⟩ rfl rfl (Nat.le_of_ble_eq_true rfl) dX6_limited_15 (fun v9 u_4 hp => ?_)
    obtain ⟨r_5, rfl, hw⟩ := hp
    refine GK.at (p2 := 18) rfl ?_
    refine gk_if_ne (pc := 18) (tgt := 24) C.1 dX6_limited_18 (by decide) (fun c_6 => ?_) (fun c_6 => ?_)
    · replace hw := hw.1 c_6
      refine GK.sub (lv' := [(0, .ref G.2.2.1), (1, .int x1), (2, .int x2), (3, .int r_2)]) [1, 2, 3, 0] rfl ?_
      exact kt_limited_24 C hG hret hXn  _ _ _ _ hw
    · replace hw := hw.2 c_6
      refine gk_bipush (pc := 21) (v := (-2)) C.1 dX6_limited_21 (by decide) ?_
      refine gk_istore_n (pc := 23) (lv' := [(3, Value.int (-2)), (0, Value.ref G.2.2.1), (1, Value.int x1), (2, Value.int x2)]) C.1 dX6_limited_23 rfl (by rw [hXn]; decide) rfl ?_
      refine GK.sub (lv' := [(0, .ref G.2.2.1), (1, .int x1), (2, .int x2), (3, .int (-2))]) [1, 2, 3, 0] rfl ?_
      exact kt_limited_24 C hG hret hXn  _ _ _ _ hw
/-! losesSome(I)V -/
def wt_losesSome_55 (k : TS → Prop) (J4 : Int32 → Int32 → Int32 → TS → Prop) (x1 : Int32) (x2 : Int32) (x3 : Int32) (u : TS) : Prop := ∀ x_1 : Int32, x_1 = x3 + 1 → (J4 x1 x2 x_1 u)
theorem kt_losesSome_55 {X : Ev} {G : TG} {k : TS → Prop} {J4 : Int32 → Int32 → Int32 → TS → Prop} (C : TC X G cX6_losesSome 4) (hG : TD G) (hret : (ev_h X).sig.returnType = none) (hXn : ev_n X = 4) (hJ4 : ∀ (x1 : Int32) (x2 : Int32) (x3 : Int32) (u : TS), J4 x1 x2 x3 u → GK X (TP G u) 0 0 (tQ X G (tV k)) 4 [(0, .ref G.2.2.1), (1, .int x1), (2, .int x2), (3, .int x3)] []) : ∀ (x1 : Int32) (x2 : Int32) (x3 : Int32) (u : TS), wt_losesSome_55 k J4 x1 x2 x3 u → GK X (TP G u) 0 0 (tQ X G (tV k)) 55 [(0, .ref G.2.2.1), (1, .int x1), (2, .int x2), (3, .int x3)] [] := by
  intro x1 x2 x3 u hw
  unfold wt_losesSome_55 at hw
  obtain ⟨x_1, ex_1⟩ : ∃ z : Int32, z = x3 + 1 := ⟨_, rfl⟩
  replace hw := hw x_1 ex_1
  refine gk_iinc (pc := 55) (v := x_1) (lv' := [(3, Value.int x_1), (0, Value.ref G.2.2.1), (1, Value.int x1), (2, Value.int x2)]) C.1 3 dX6_losesSome_55 rfl (by rw [ex_1]; rfl) (by rw [hXn]; decide) rfl ?_
  refine gk_goto (pc := 58) (tgt := 4) C.1 dX6_losesSome_58 (by decide) ?_
  refine GK.sub (lv' := [(0, .ref G.2.2.1), (1, .int x1), (2, .int x2), (3, .int x_1)]) [1, 2, 3, 0] rfl ?_
  exact hJ4 _ _ _ _ hw
def wt_losesSome_52 (k : TS → Prop) (J4 : Int32 → Int32 → Int32 → TS → Prop) (x1 : Int32) (x2 : Int32) (x3 : Int32) (u : TS) : Prop := ∀ x_1 : Int32, x_1 = x2 + 1 → (wt_losesSome_55 k J4 x1 x_1 x3 u)
theorem kt_losesSome_52 {X : Ev} {G : TG} {k : TS → Prop} {J4 : Int32 → Int32 → Int32 → TS → Prop} (C : TC X G cX6_losesSome 4) (hG : TD G) (hret : (ev_h X).sig.returnType = none) (hXn : ev_n X = 4) (hJ4 : ∀ (x1 : Int32) (x2 : Int32) (x3 : Int32) (u : TS), J4 x1 x2 x3 u → GK X (TP G u) 0 0 (tQ X G (tV k)) 4 [(0, .ref G.2.2.1), (1, .int x1), (2, .int x2), (3, .int x3)] []) : ∀ (x1 : Int32) (x2 : Int32) (x3 : Int32) (u : TS), wt_losesSome_52 k J4 x1 x2 x3 u → GK X (TP G u) 0 0 (tQ X G (tV k)) 52 [(0, .ref G.2.2.1), (1, .int x1), (2, .int x2), (3, .int x3)] [] := by
  intro x1 x2 x3 u hw
  unfold wt_losesSome_52 at hw
  obtain ⟨x_1, ex_1⟩ : ∃ z : Int32, z = x2 + 1 := ⟨_, rfl⟩
  replace hw := hw x_1 ex_1
  refine gk_iinc (pc := 52) (v := x_1) (lv' := [(2, Value.int x_1), (0, Value.ref G.2.2.1), (1, Value.int x1), (3, Value.int x3)]) C.1 2 dX6_losesSome_52 rfl (by rw [ex_1]; rfl) (by rw [hXn]; decide) rfl ?_
  refine GK.sub (lv' := [(0, .ref G.2.2.1), (1, .int x1), (2, .int x_1), (3, .int x3)]) [1, 2, 0, 3] rfl ?_
  exact kt_losesSome_55 C hG hret hXn hJ4 _ _ _ _ hw
def wt_losesSome_4 (k : TS → Prop) : Nat → Int32 → Int32 → Int32 → TS → Prop
  | 0 => fun _ _ _ _ => False
  | n + 1 => fun x1 x2 x3 u => (((u.2 6) ≤ x3 → (wt_measures (fun u_2 => k u_2) u)) ∧ (¬ (u.2 6) ≤ x3 → (vp_in x3 21 ∧ ((((u.1 1 x3.toNatClampNeg) = 0 → (((6 ≤ x2 → (wt_losesSome_52 k (fun yx1 yx2 yx3 yu => wt_losesSome_4 k n yx1 yx2 yx3 yu) x1 x2 x3 u)) ∧ (¬ 6 ≤ x2 → (wt_has (fun r_6 u_5 => ((r_6 = 0 → (wt_losesSome_52 k (fun yx1 yx2 yx3 yu => wt_losesSome_4 k n yx1 yx2 yx3 yu) x1 x2 x3 u_5)) ∧ (¬ r_6 = 0 → (vp_in x3 21 ∧ (∀ u_8 : TS, u_8 = tpA u_5 1 x3.toNatClampNeg 1 → (vp_in x3 21 ∧ (∀ u_9 : TS, u_9 = tpA u_8 2 x3.toNatClampNeg 0 → (wt_losesSome_52 k (fun yx1 yx2 yx3 yu => wt_losesSome_4 k n yx1 yx2 yx3 yu) x1 x2 x3 u_9)))))))) x1 x2 u))))) ∧ (¬ (u.1 1 x3.toNatClampNeg) = 0 → (wt_losesSome_55 k (fun yx1 yx2 yx3 yu => wt_losesSome_4 k n yx1 yx2 yx3 yu) x1 x2 x3 u)))))))
theorem kt_losesSome_4 {X : Ev} {G : TG} {k : TS → Prop} (C : TC X G cX6_losesSome 4) (hG : TD G) (hret : (ev_h X).sig.returnType = none) (hXn : ev_n X = 4) : ∀ (n : Nat) (x1 : Int32) (x2 : Int32) (x3 : Int32) (u : TS), wt_losesSome_4 k n x1 x2 x3 u → GK X (TP G u) 0 0 (tQ X G (tV k)) 4 [(0, .ref G.2.2.1), (1, .int x1), (2, .int x2), (3, .int x3)] [] := by
  intro n
  induction n with
  | zero => intro x1 x2 x3 u hw; exact hw.elim
  | succ n ih =>
  intro x1 x2 x3 u hw
  unfold wt_losesSome_4 at hw
  refine gk_iload_n (pc := 4) C.1 3 dX6_losesSome_4 rfl rfl ?_
  refine gk_aload_n (pc := 5) C.1 0 dX6_losesSome_5 rfl rfl ?_
  refine tk_getI (pc := 6) C (k := 6) (by decide) (by decide) q2127 rfl dX6_losesSome_6 ?_
  refine gk_icmp_ge (pc := 9) (tgt := 61) C.1 dX6_losesSome_9 (by decide) (fun c_1 => ?_) (fun c_1 => ?_)
  · replace hw := hw.1 c_1
    refine gk_aload_n (pc := 61) C.1 0 dX6_losesSome_61 rfl rfl ?_
    refine tk_callV (pc := 62) (y := yX6_measures) (n := 0) (As := []) (rest := []) C (wk_measures (ev_l X) hG hw) q2109 q2111 qs63 q2112 ⟨rfl, by decide +kernel⟩ ⟨by decide, by decide⟩ rfl rfl (Nat.le_of_ble_eq_true rfl) dX6_losesSome_62 (fun v9 u_2 hp => ?_)
    obtain ⟨rfl, hw⟩ := hp
    refine GK.at (p2 := 65) rfl ?_
    exact tk_vret (pc := 65) C hret dX6_losesSome_65 hw
  · replace hw := hw.2 c_1
    refine gk_aload_n (pc := 12) C.1 0 dX6_losesSome_12 rfl rfl ?_
    refine tk_getA (pc := 13) C (k := 1) (by decide) (by decide) q2122 rfl dX6_losesSome_13 ?_
    refine gk_iload_n (pc := 16) C.1 3 dX6_losesSome_16 rfl rfl ?_
    obtain ⟨hi, hw⟩ := hw
    refine tk_ald (pc := 17) C (k := 1) (by decide) hi dX6_losesSome_17 ?_
    refine gk_if_eq (pc := 18) (tgt := 24) C.1 dX6_losesSome_18 (by decide) (fun c_3 => ?_) (fun c_3 => ?_)
    · replace hw := hw.1 c_3
      refine gk_iload_n (pc := 24) C.1 2 dX6_losesSome_24 rfl rfl ?_
      refine gk_bipush (pc := 25) (v := 6) C.1 dX6_losesSome_25 (by decide) ?_
      refine gk_icmp_ge (pc := 27) (tgt := 52) C.1 dX6_losesSome_27 (by decide) (fun c_4 => ?_) (fun c_4 => ?_)
      · replace hw := hw.1 c_4
        refine GK.sub (lv' := [(0, .ref G.2.2.1), (1, .int x1), (2, .int x2), (3, .int x3)]) [0, 1, 2, 3] rfl ?_
        exact kt_losesSome_52 C hG hret hXn ih _ _ _ _ hw
      · replace hw := hw.2 c_4
        refine gk_iload_n (pc := 30) C.1 1 dX6_losesSome_30 rfl rfl ?_
        refine gk_iload_n (pc := 31) C.1 2 dX6_losesSome_31 rfl rfl ?_
        refine tk_callS (pc := 32) (y := yX6_has) (n := 2) (As := [.int x1, .int x2]) (rest := []) C (wk_has (ev_l X) hG hw) q2366 q2367 q2368 ⟨rfl, by decide +kernel⟩ ⟨by decide, by decide⟩ rfl rfl (Nat.le_of_ble_eq_true rfl) dX6_losesSome_32 (fun v9 u_5 hp => ?_)
        obtain ⟨r_6, rfl, hw⟩ := hp
        refine GK.at (p2 := 35) rfl ?_
        refine gk_if_eq (pc := 35) (tgt := 52) C.1 dX6_losesSome_35 (by decide) (fun c_7 => ?_) (fun c_7 => ?_)
        · replace hw := hw.1 c_7
          refine GK.sub (lv' := [(0, .ref G.2.2.1), (1, .int x1), (2, .int x2), (3, .int x3)]) [0, 1, 2, 3] rfl ?_
          exact kt_losesSome_52 C hG hret hXn ih _ _ _ _ hw
        · replace hw := hw.2 c_7
          refine gk_aload_n (pc := 38) C.1 0 dX6_losesSome_38 rfl rfl ?_
          refine tk_getA (pc := 39) C (k := 1) (by decide) (by decide) q2122 rfl dX6_losesSome_39 ?_
          refine gk_iload_n (pc := 42) C.1 3 dX6_losesSome_42 rfl rfl ?_
          refine gk_iconst (pc := 43) (v := 1) C.1 dX6_losesSome_43 (by decide) ?_
          obtain ⟨hi, hw⟩ := hw
          refine tk_ast (pc := 44) C (k := 1) (by decide) hi dX6_losesSome_44 (fun u_8 eu_8 => ?_)
          replace hw := hw u_8 eu_8
          refine gk_aload_n (pc := 45) C.1 0 dX6_losesSome_45 rfl rfl ?_
          refine tk_getA (pc := 46) C (k := 2) (by decide) (by decide) q2123 rfl dX6_losesSome_46 ?_
          refine gk_iload_n (pc := 49) C.1 3 dX6_losesSome_49 rfl rfl ?_
          refine gk_iconst (pc := 50) (v := 0) C.1 dX6_losesSome_50 (by decide) ?_
          obtain ⟨hi, hw⟩ := hw
          refine tk_ast (pc := 51) C (k := 2) (by decide) hi dX6_losesSome_51 (fun u_9 eu_9 => ?_)
          replace hw := hw u_9 eu_9
          refine GK.sub (lv' := [(0, .ref G.2.2.1), (1, .int x1), (2, .int x2), (3, .int x3)]) [0, 1, 2, 3] rfl ?_
          exact kt_losesSome_52 C hG hret hXn ih _ _ _ _ hw
    · replace hw := hw.2 c_3
      refine gk_goto (pc := 21) (tgt := 55) C.1 dX6_losesSome_21 (by decide) ?_
      refine GK.sub (lv' := [(0, .ref G.2.2.1), (1, .int x1), (2, .int x2), (3, .int x3)]) [0, 1, 2, 3] rfl ?_
      exact kt_losesSome_55 C hG hret hXn ih _ _ _ _ hw
def wt_losesSome (k : TS → Prop) (x1 : Int32) (u : TS) : Prop := ∃ fu : Nat, wt_losesSome_4 k fu x1 0 0 u
theorem wk_losesSome (l : Launch) {G : TG} (hG : TD G) {k : TS → Prop} {x1 : Int32} {u : TS} (hw : wt_losesSome k x1 u) : TMet l yX6_losesSome cX6_losesSome 4 (none) 4 G [.ref G.2.2.1, .int x1] u (tV k) := by
  refine tk_met hG rfl (Nat.le_of_ble_eq_true rfl) (fun X hXl hXn hret C => ?_)
  subst hXl
  unfold wt_losesSome at hw
  refine GK.sub (lv' := [(0, .ref G.2.2.1), (1, .int x1)]) [0, 1] rfl ?_
  refine gk_iconst (pc := 0) (v := 0) C.1 dX6_losesSome_0 (by decide) ?_
  refine gk_istore_n (pc := 1) (lv' := [(2, Value.int 0), (0, Value.ref G.2.2.1), (1, Value.int x1)]) C.1 dX6_losesSome_1 rfl (by rw [hXn]; decide) rfl ?_
  refine gk_iconst (pc := 2) (v := 0) C.1 dX6_losesSome_2 (by decide) ?_
  refine gk_istore_n (pc := 3) (lv' := [(3, Value.int 0), (2, Value.int 0), (0, Value.ref G.2.2.1), (1, Value.int x1)]) C.1 dX6_losesSome_3 rfl (by rw [hXn]; decide) rfl ?_
  refine GK.sub (lv' := [(0, .ref G.2.2.1), (1, .int x1), (2, .int 0), (3, .int 0)]) [2, 3, 1, 0] rfl ?_
  obtain ⟨n9, hw⟩ := hw
  exact kt_losesSome_4 C hG hret hXn  n9 _ _ _ _ hw
/-! lowestOf(I)J -/
def wt_lowestOf (k : Int64 → TS → Prop) (x1 : Int32) (u : TS) : Prop := vp_in (-x1) 7 ∧ (vp_in (-x1) 7 ∧ (∀ u_1 : TS, u_1 = tpA u 0 (-x1).toNatClampNeg ((u.1 0 (-x1).toNatClampNeg) + 1) → (k (4000000000000000000 - x1.toInt64) u_1)))
theorem wk_lowestOf (l : Launch) {G : TG} (hG : TD G) {k : Int64 → TS → Prop} {x1 : Int32} {u : TS} (hw : wt_lowestOf k x1 u) : TMet l yX6_lowestOf cX6_lowestOf 2 (some .long) 1 G [.ref G.2.2.1, .int x1] u (tL k) := by
  refine tk_met hG rfl (Nat.le_of_ble_eq_true rfl) (fun X hXl hXn hret C => ?_)
  subst hXl
  unfold wt_lowestOf at hw
  refine GK.sub (lv' := [(0, .ref G.2.2.1), (1, .int x1)]) [0, 1] rfl ?_
  refine gk_aload_n (pc := 0) C.1 0 dX6_lowestOf_0 rfl rfl ?_
  refine tk_getA (pc := 1) C (k := 0) (by decide) (by decide) q2121 rfl dX6_lowestOf_1 ?_
  refine gk_iload_n (pc := 4) C.1 1 dX6_lowestOf_4 rfl rfl ?_
  refine gk_ineg (pc := 5) C.1 dX6_lowestOf_5 ?_
  refine gk_dup2 (pc := 6) C.1 dX6_lowestOf_6 rfl rfl ?_
  obtain ⟨hi, hw⟩ := hw
  refine tk_ald (pc := 7) C (k := 0) (by decide) hi dX6_lowestOf_7 ?_
  refine gk_iconst (pc := 8) (v := 1) C.1 dX6_lowestOf_8 (by decide) ?_
  refine gk_iadd (pc := 9) C.1 dX6_lowestOf_9 ?_
  obtain ⟨hi, hw⟩ := hw
  refine tk_ast (pc := 10) C (k := 0) (by decide) hi dX6_lowestOf_10 (fun u_1 eu_1 => ?_)
  replace hw := hw u_1 eu_1
  refine gk_ldc2 (pc := 11) (v := 4000000000000000000) C.1 q2656 dX6_lowestOf_11 ?_
  refine gk_iload_n (pc := 14) C.1 1 dX6_lowestOf_14 rfl rfl ?_
  refine gk_i2l (pc := 15) C.1 dX6_lowestOf_15 ?_
  refine gk_lsub (pc := 16) C.1 dX6_lowestOf_16 ?_
  exact tk_lret (pc := 17) C hret dX6_lowestOf_17 hw
/-! partOf(JJI)J -/
def wt_partOf_10 (k : Int64 → TS → Prop) (x0 : Int64) (x2 : Int64) (s0 : Int64) (u : TS) : Prop := wt_divisor (fun r_2 u_1 => ¬ r_2 = 0 ∧ (k (s0 / r_2) u_1)) x0 x2 u
theorem kt_partOf_10 {X : Ev} {G : TG} {k : Int64 → TS → Prop} (C : TC X G cX6_partOf 2) (hG : TD G) (hret : (ev_h X).sig.returnType = some .long) (hXn : ev_n X = 5) : ∀ (x0 : Int64) (x2 : Int64) (s0 : Int64) (u : TS), wt_partOf_10 k x0 x2 s0 u → GK X (TP G u) 0 0 (tQ X G (tL k)) 10 [(0, .long x0), (2, .long x2)] [.long s0] := by
  intro x0 x2 s0 u hw
  unfold wt_partOf_10 at hw
  refine gk_lload_n (pc := 10) C.1 0 dX6_partOf_10 rfl rfl ?_
  refine gk_lload_n (pc := 11) C.1 1 dX6_partOf_11 rfl rfl ?_
  refine tk_callS (pc := 12) (y := yX6_divisor) (n := 2) (As := [.long x0, .long x2]) (rest := [.long s0]) C (wk_divisor (ev_l X) hG hw) q2668 q2669 q2670 ⟨rfl, by decide +kernel⟩ ⟨by decide, by decide⟩ rfl rfl (Nat.le_of_ble_eq_true rfl) dX6_partOf_12 (fun v9 u_1 hp => ?_)
  obtain ⟨r_2, rfl, hw⟩ := hp
  refine GK.at (p2 := 15) rfl ?_
  obtain ⟨hne, hw⟩ := hw
  refine gk_ldiv (pc := 15) C.1 dX6_partOf_15 hne ?_
  exact tk_lret (pc := 16) C hret dX6_partOf_16 hw
def wt_partOf (k : Int64 → TS → Prop) (x0 : Int64) (x2 : Int64) (x4 : Int32) (u : TS) : Prop := ((¬ x4 = 0 → (wt_partOf_10 k x0 x2 x2 u)) ∧ (x4 = 0 → (wt_partOf_10 k x0 x2 x0 u)))
theorem wk_partOf (l : Launch) {G : TG} (hG : TD G) {k : Int64 → TS → Prop} {x0 : Int64} {x2 : Int64} {x4 : Int32} {u : TS} (hw : wt_partOf k x0 x2 x4 u) : TMet l yX6_partOf cX6_partOf 5 (some .long) 2 G [.long x0, .long x2, .int x4] u (tL k) := by
  refine tk_met hG rfl (Nat.le_of_ble_eq_true rfl) (fun X hXl hXn hret C => ?_)
  subst hXl
  unfold wt_partOf at hw
  refine GK.sub (lv' := [(0, .long x0), (2, .long x2), (4, .int x4)]) [0, 1, 2] rfl ?_
  refine gk_iload (pc := 0) C.1 2 dX6_partOf_0 rfl ?_
  refine gk_if_ne (pc := 2) (tgt := 9) C.1 dX6_partOf_2 (by decide) (fun c_1 => ?_) (fun c_1 => ?_)
  · replace hw := hw.1 c_1
    refine gk_lload_n (pc := 9) C.1 1 dX6_partOf_9 rfl rfl ?_
    refine GK.sub (lv' := [(0, .long x0), (2, .long x2)]) [0, 1] rfl ?_
    exact kt_partOf_10 C hG hret hXn  _ _ _ _ hw
  · replace hw := hw.2 c_1
    refine gk_lload_n (pc := 5) C.1 0 dX6_partOf_5 rfl rfl ?_
    refine gk_goto (pc := 6) (tgt := 10) C.1 dX6_partOf_6 (by decide) ?_
    refine GK.sub (lv' := [(0, .long x0), (2, .long x2)]) [0, 1] rfl ?_
    exact kt_partOf_10 C hG hret hXn  _ _ _ _ hw
/-! loss(II)J -/
def wt_loss_116 (k : Int64 → TS → Prop) (J74 : Int32 → Int32 → Int32 → Int64 → Int64 → Int32 → TS → Prop) (J89 : Int32 → Int32 → Int32 → Int64 → Int64 → Int32 → Int64 → Int32 → TS → Prop) (x1 : Int32) (x2 : Int32) (x4 : Int32) (x5 : Int64) (x7 : Int64) (x9 : Int32) (x12 : Int32) (s0 : Int64) (s1 : Int64) (u : TS) : Prop := ∀ x_1 : Int64, x_1 = s0 * s1 → (∀ x_2 : Int32, x_2 = x12 + 1 → (J89 x1 x2 x4 x5 x7 x9 x_1 x_2 u))
theorem kt_loss_116 {X : Ev} {G : TG} {k : Int64 → TS → Prop} {J74 : Int32 → Int32 → Int32 → Int64 → Int64 → Int32 → TS → Prop} {J89 : Int32 → Int32 → Int32 → Int64 → Int64 → Int32 → Int64 → Int32 → TS → Prop} (C : TC X G cX6_loss 10) (hG : TD G) (hret : (ev_h X).sig.returnType = some .long) (hXn : ev_n X = 13) (hJ74 : ∀ (x1 : Int32) (x2 : Int32) (x4 : Int32) (x5 : Int64) (x7 : Int64) (x9 : Int32) (u : TS), J74 x1 x2 x4 x5 x7 x9 u → GK X (TP G u) 0 0 (tQ X G (tL k)) 74 [(0, .ref G.2.2.1), (1, .int x1), (2, .int x2), (4, .int x4), (5, .long x5), (7, .long x7), (9, .int x9)] []) (hJ89 : ∀ (x1 : Int32) (x2 : Int32) (x4 : Int32) (x5 : Int64) (x7 : Int64) (x9 : Int32) (x10 : Int64) (x12 : Int32) (u : TS), J89 x1 x2 x4 x5 x7 x9 x10 x12 u → GK X (TP G u) 0 0 (tQ X G (tL k)) 89 [(0, .ref G.2.2.1), (1, .int x1), (2, .int x2), (4, .int x4), (5, .long x5), (7, .long x7), (9, .int x9), (10, .long x10), (12, .int x12)] []) : ∀ (x1 : Int32) (x2 : Int32) (x4 : Int32) (x5 : Int64) (x7 : Int64) (x9 : Int32) (x12 : Int32) (s0 : Int64) (s1 : Int64) (u : TS), wt_loss_116 k J74 J89 x1 x2 x4 x5 x7 x9 x12 s0 s1 u → GK X (TP G u) 0 0 (tQ X G (tL k)) 116 [(0, .ref G.2.2.1), (1, .int x1), (2, .int x2), (4, .int x4), (5, .long x5), (7, .long x7), (9, .int x9), (12, .int x12)] [.long s1, .long s0] := by
  intro x1 x2 x4 x5 x7 x9 x12 s0 s1 u hw
  unfold wt_loss_116 at hw
  refine gk_lmul (pc := 116) C.1 dX6_loss_116 ?_
  obtain ⟨x_1, ex_1⟩ : ∃ z : Int64, z = s0 * s1 := ⟨_, rfl⟩
  rw [← ex_1]
  replace hw := hw x_1 ex_1
  refine gk_lstore (pc := 117) (lv' := [(10, Value.long x_1), (0, Value.ref G.2.2.1), (1, Value.int x1), (2, Value.int x2), (4, Value.int x4), (5, Value.long x5), (7, Value.long x7), (9, Value.int x9), (12, Value.int x12)]) C.1 dX6_loss_117 (by rw [hXn]; decide) rfl ?_
  obtain ⟨x_2, ex_2⟩ : ∃ z : Int32, z = x12 + 1 := ⟨_, rfl⟩
  replace hw := hw x_2 ex_2
  refine gk_iinc (pc := 119) (v := x_2) (lv' := [(12, Value.int x_2), (10, Value.long x_1), (0, Value.ref G.2.2.1), (1, Value.int x1), (2, Value.int x2), (4, Value.int x4), (5, Value.long x5), (7, Value.long x7), (9, Value.int x9)]) C.1 8 dX6_loss_119 rfl (by rw [ex_2]; rfl) (by rw [hXn]; decide) rfl ?_
  refine gk_goto (pc := 122) (tgt := 89) C.1 dX6_loss_122 (by decide) ?_
  refine GK.sub (lv' := [(0, .ref G.2.2.1), (1, .int x1), (2, .int x2), (4, .int x4), (5, .long x5), (7, .long x7), (9, .int x9), (10, .long x_1), (12, .int x_2)]) [2, 3, 4, 5, 6, 7, 8, 1, 0] rfl ?_
  exact hJ89 _ _ _ _ _ _ _ _ _ hw
def wt_loss_150 (k : Int64 → TS → Prop) (J74 : Int32 → Int32 → Int32 → Int64 → Int64 → Int32 → TS → Prop) (x1 : Int32) (x2 : Int32) (x4 : Int32) (x7 : Int64) (x9 : Int32) (s0 : Int64) (s1 : Int64) (u : TS) : Prop := ∀ x_1 : Int64, x_1 = s0 + s1 → (wt_forgets (fun u_2 => ∀ x_3 : Int32, x_3 = x9 + 1 → (J74 x1 x2 x4 x_1 x7 x_3 u_2)) u)
theorem kt_loss_150 {X : Ev} {G : TG} {k : Int64 → TS → Prop} {J74 : Int32 → Int32 → Int32 → Int64 → Int64 → Int32 → TS → Prop} (C : TC X G cX6_loss 10) (hG : TD G) (hret : (ev_h X).sig.returnType = some .long) (hXn : ev_n X = 13) (hJ74 : ∀ (x1 : Int32) (x2 : Int32) (x4 : Int32) (x5 : Int64) (x7 : Int64) (x9 : Int32) (u : TS), J74 x1 x2 x4 x5 x7 x9 u → GK X (TP G u) 0 0 (tQ X G (tL k)) 74 [(0, .ref G.2.2.1), (1, .int x1), (2, .int x2), (4, .int x4), (5, .long x5), (7, .long x7), (9, .int x9)] []) : ∀ (x1 : Int32) (x2 : Int32) (x4 : Int32) (x7 : Int64) (x9 : Int32) (s0 : Int64) (s1 : Int64) (u : TS), wt_loss_150 k J74 x1 x2 x4 x7 x9 s0 s1 u → GK X (TP G u) 0 0 (tQ X G (tL k)) 150 [(0, .ref G.2.2.1), (1, .int x1), (2, .int x2), (4, .int x4), (7, .long x7), (9, .int x9)] [.long s1, .long s0] := by
  intro x1 x2 x4 x7 x9 s0 s1 u hw
  unfold wt_loss_150 at hw
  refine gk_ladd (pc := 150) C.1 dX6_loss_150 ?_
  obtain ⟨x_1, ex_1⟩ : ∃ z : Int64, z = s0 + s1 := ⟨_, rfl⟩
  rw [← ex_1]
  replace hw := hw x_1 ex_1
  refine gk_lstore (pc := 151) (lv' := [(5, Value.long x_1), (0, Value.ref G.2.2.1), (1, Value.int x1), (2, Value.int x2), (4, Value.int x4), (7, Value.long x7), (9, Value.int x9)]) C.1 dX6_loss_151 (by rw [hXn]; decide) rfl ?_
  refine gk_aload_n (pc := 153) C.1 1 dX6_loss_153 rfl rfl ?_
  refine tk_callV (pc := 154) (y := yX6_forgets) (n := 0) (As := []) (rest := []) C (wk_forgets (ev_l X) hG hw) q2632 q2634 qs128 q2635 ⟨rfl, by decide +kernel⟩ ⟨by decide, by decide⟩ rfl rfl (Nat.le_of_ble_eq_true rfl) dX6_loss_154 (fun v9 u_2 hp => ?_)
  obtain ⟨rfl, hw⟩ := hp
  refine GK.at (p2 := 157) rfl ?_
  obtain ⟨x_3, ex_3⟩ : ∃ z : Int32, z = x9 + 1 := ⟨_, rfl⟩
  replace hw := hw x_3 ex_3
  refine gk_iinc (pc := 157) (v := x_3) (lv' := [(9, Value.int x_3), (5, Value.long x_1), (0, Value.ref G.2.2.1), (1, Value.int x1), (2, Value.int x2), (4, Value.int x4), (7, Value.long x7)]) C.1 6 dX6_loss_157 rfl (by rw [ex_3]; rfl) (by rw [hXn]; decide) rfl ?_
  refine gk_goto (pc := 160) (tgt := 74) C.1 dX6_loss_160 (by decide) ?_
  refine GK.sub (lv' := [(0, .ref G.2.2.1), (1, .int x1), (2, .int x2), (4, .int x4), (5, .long x_1), (7, .long x7), (9, .int x_3)]) [2, 3, 4, 5, 1, 6, 0] rfl ?_
  exact hJ74 _ _ _ _ _ _ _ hw
def wt_loss_89 (k : Int64 → TS → Prop) (J74 : Int32 → Int32 → Int32 → Int64 → Int64 → Int32 → TS → Prop) : Nat → Int32 → Int32 → Int32 → Int64 → Int64 → Int32 → Int64 → Int32 → TS → Prop
  | 0 => fun _ _ _ _ _ _ _ _ _ => False
  | n + 1 => fun x1 x2 x4 x5 x7 x9 x10 x12 u => ((x4 ≤ x12 → (wt_minds (fun u_2 => wt_losesSome (fun u_3 => wt_manyNow (fun r_5 u_4 => ((¬ r_5 = 0 → (wt_loss_150 k J74 x1 x2 x4 x7 x9 x5 0 u_4)) ∧ (r_5 = 0 → (wt_loss_150 k J74 x1 x2 x4 x7 x9 x5 x10 u_4)))) u_3) x9 u_2) u)) ∧ (¬ x4 ≤ x12 → (wt_has (fun r_8 u_7 => ((r_8 = 0 → (wt_loss_116 k J74 (fun yx1 yx2 yx4 yx5 yx7 yx9 yx10 yx12 yu => wt_loss_89 k J74 n yx1 yx2 yx4 yx5 yx7 yx9 yx10 yx12 yu) x1 x2 x4 x5 x7 x9 x12 x10 ((x1 - 1).toInt64) u_7)) ∧ (¬ r_8 = 0 → (wt_loss_116 k J74 (fun yx1 yx2 yx4 yx5 yx7 yx9 yx10 yx12 yu => wt_loss_89 k J74 n yx1 yx2 yx4 yx5 yx7 yx9 yx10 yx12 yu) x1 x2 x4 x5 x7 x9 x12 x10 1 u_7)))) x9 x12 u)))
theorem kt_loss_89 {X : Ev} {G : TG} {k : Int64 → TS → Prop} {J74 : Int32 → Int32 → Int32 → Int64 → Int64 → Int32 → TS → Prop} (C : TC X G cX6_loss 10) (hG : TD G) (hret : (ev_h X).sig.returnType = some .long) (hXn : ev_n X = 13) (hJ74 : ∀ (x1 : Int32) (x2 : Int32) (x4 : Int32) (x5 : Int64) (x7 : Int64) (x9 : Int32) (u : TS), J74 x1 x2 x4 x5 x7 x9 u → GK X (TP G u) 0 0 (tQ X G (tL k)) 74 [(0, .ref G.2.2.1), (1, .int x1), (2, .int x2), (4, .int x4), (5, .long x5), (7, .long x7), (9, .int x9)] []) : ∀ (n : Nat) (x1 : Int32) (x2 : Int32) (x4 : Int32) (x5 : Int64) (x7 : Int64) (x9 : Int32) (x10 : Int64) (x12 : Int32) (u : TS), wt_loss_89 k J74 n x1 x2 x4 x5 x7 x9 x10 x12 u → GK X (TP G u) 0 0 (tQ X G (tL k)) 89 [(0, .ref G.2.2.1), (1, .int x1), (2, .int x2), (4, .int x4), (5, .long x5), (7, .long x7), (9, .int x9), (10, .long x10), (12, .int x12)] [] := by
  intro n
  induction n with
  | zero => intro x1 x2 x4 x5 x7 x9 x10 x12 u hw; exact hw.elim
  | succ n ih =>
  intro x1 x2 x4 x5 x7 x9 x10 x12 u hw
  unfold wt_loss_89 at hw
  refine gk_iload (pc := 89) C.1 8 dX6_loss_89 rfl ?_
  refine gk_iload (pc := 91) C.1 3 dX6_loss_91 rfl ?_
  refine gk_icmp_ge (pc := 93) (tgt := 125) C.1 dX6_loss_93 (by decide) (fun c_1 => ?_) (fun c_1 => ?_)
  · replace hw := hw.1 c_1
    refine gk_aload_n (pc := 125) C.1 0 dX6_loss_125 rfl rfl ?_
    refine tk_callV (pc := 126) (y := yX6_minds) (n := 0) (As := []) (rest := []) C (wk_minds (ev_l X) hG hw) q2624 q2626 qs126 q2627 ⟨rfl, by decide +kernel⟩ ⟨by decide, by decide⟩ rfl rfl (Nat.le_of_ble_eq_true rfl) dX6_loss_126 (fun v9 u_2 hp => ?_)
    obtain ⟨rfl, hw⟩ := hp
    refine GK.at (p2 := 129) rfl ?_
    refine gk_aload_n (pc := 129) C.1 0 dX6_loss_129 rfl rfl ?_
    refine gk_iload (pc := 130) C.1 6 dX6_loss_130 rfl ?_
    refine tk_callV (pc := 132) (y := yX6_losesSome) (n := 1) (As := [.int x9]) (rest := []) C (wk_losesSome (ev_l X) hG hw) q2661 q2663 qs132 q2664 ⟨rfl, by decide +kernel⟩ ⟨by decide, by decide⟩ rfl rfl (Nat.le_of_ble_eq_true rfl) dX6_loss_132 (fun v9 u_3 hp => ?_)
    obtain ⟨rfl, hw⟩ := hp
    refine GK.at (p2 := 135) rfl ?_
    refine gk_lload (pc := 135) C.1 4 dX6_loss_135 rfl ?_
    refine gk_aload_n (pc := 137) C.1 0 dX6_loss_137 rfl rfl ?_
    refine tk_callV (pc := 138) (y := yX6_manyNow) (n := 0) (As := []) (rest := [.long x5]) C (wk_manyNow (ev_l X) hG hw) q2457 q2459 qs97 q2460 ⟨rfl, by decide +kernel⟩ ⟨by decide, by decide⟩ rfl rfl (Nat.le_of_ble_eq_true rfl) dX6_loss_138 (fun v9 u_4 hp => ?_)
    obtain ⟨r_5, rfl, hw⟩ := hp
    refine GK.at (p2 := 141) rfl ?_
    refine gk_if_ne (pc := 141) (tgt := 149) C.1 dX6_loss_141 (by decide) (fun c_6 => ?_) (fun c_6 => ?_)
    · replace hw := hw.1 c_6
      refine gk_lconst (pc := 149) (v := 0) C.1 dX6_loss_149 (by decide) ?_
      refine GK.sub (lv' := [(0, .ref G.2.2.1), (1, .int x1), (2, .int x2), (4, .int x4), (7, .long x7), (9, .int x9)]) [0, 1, 2, 3, 5, 6] rfl ?_
      exact kt_loss_150 C hG hret hXn hJ74 _ _ _ _ _ _ _ _ hw
    · replace hw := hw.2 c_6
      refine gk_lload (pc := 144) C.1 7 dX6_loss_144 rfl ?_
      refine gk_goto (pc := 146) (tgt := 150) C.1 dX6_loss_146 (by decide) ?_
      refine GK.sub (lv' := [(0, .ref G.2.2.1), (1, .int x1), (2, .int x2), (4, .int x4), (7, .long x7), (9, .int x9)]) [0, 1, 2, 3, 5, 6] rfl ?_
      exact kt_loss_150 C hG hret hXn hJ74 _ _ _ _ _ _ _ _ hw
  · replace hw := hw.2 c_1
    refine gk_lload (pc := 96) C.1 7 dX6_loss_96 rfl ?_
    refine gk_iload (pc := 98) C.1 6 dX6_loss_98 rfl ?_
    refine gk_iload (pc := 100) C.1 8 dX6_loss_100 rfl ?_
    refine tk_callS (pc := 102) (y := yX6_has) (n := 2) (As := [.int x9, .int x12]) (rest := [.long x10]) C (wk_has (ev_l X) hG hw) q2366 q2367 q2368 ⟨rfl, by decide +kernel⟩ ⟨by decide, by decide⟩ rfl rfl (Nat.le_of_ble_eq_true rfl) dX6_loss_102 (fun v9 u_7 hp => ?_)
    obtain ⟨r_8, rfl, hw⟩ := hp
    refine GK.at (p2 := 105) rfl ?_
    refine gk_if_eq (pc := 105) (tgt := 112) C.1 dX6_loss_105 (by decide) (fun c_9 => ?_) (fun c_9 => ?_)
    · replace hw := hw.1 c_9
      refine gk_iload_n (pc := 112) C.1 1 dX6_loss_112 rfl rfl ?_
      refine gk_iconst (pc := 113) (v := 1) C.1 dX6_loss_113 (by decide) ?_
      refine gk_isub (pc := 114) C.1 dX6_loss_114 ?_
      refine gk_i2l (pc := 115) C.1 dX6_loss_115 ?_
      refine GK.sub (lv' := [(0, .ref G.2.2.1), (1, .int x1), (2, .int x2), (4, .int x4), (5, .long x5), (7, .long x7), (9, .int x9), (12, .int x12)]) [0, 1, 2, 3, 4, 5, 6, 8] rfl ?_
      exact kt_loss_116 C hG hret hXn hJ74 ih _ _ _ _ _ _ _ _ _ _ hw
    · replace hw := hw.2 c_9
      refine gk_lconst (pc := 108) (v := 1) C.1 dX6_loss_108 (by decide) ?_
      refine gk_goto (pc := 109) (tgt := 116) C.1 dX6_loss_109 (by decide) ?_
      refine GK.sub (lv' := [(0, .ref G.2.2.1), (1, .int x1), (2, .int x2), (4, .int x4), (5, .long x5), (7, .long x7), (9, .int x9), (12, .int x12)]) [0, 1, 2, 3, 4, 5, 6, 8] rfl ?_
      exact kt_loss_116 C hG hret hXn hJ74 ih _ _ _ _ _ _ _ _ _ _ hw
def wt_loss_74 (k : Int64 → TS → Prop) : Nat → Int32 → Int32 → Int32 → Int64 → Int64 → Int32 → TS → Prop
  | 0 => fun _ _ _ _ _ _ _ => False
  | n + 1 => fun x1 x2 x4 x5 x7 x9 u => (((1 <<< (x4 &&& 31)) ≤ x9 → (wt_partOf (fun r_3 u_2 => k r_3 u_2) x5 x7 x2 u)) ∧ (¬ (1 <<< (x4 &&& 31)) ≤ x9 → (∃ fu : Nat, wt_loss_89 k (fun yx1 yx2 yx4 yx5 yx7 yx9 yu => wt_loss_74 k n yx1 yx2 yx4 yx5 yx7 yx9 yu) fu x1 x2 x4 x5 x7 x9 1 0 u)))
theorem kt_loss_74 {X : Ev} {G : TG} {k : Int64 → TS → Prop} (C : TC X G cX6_loss 10) (hG : TD G) (hret : (ev_h X).sig.returnType = some .long) (hXn : ev_n X = 13) : ∀ (n : Nat) (x1 : Int32) (x2 : Int32) (x4 : Int32) (x5 : Int64) (x7 : Int64) (x9 : Int32) (u : TS), wt_loss_74 k n x1 x2 x4 x5 x7 x9 u → GK X (TP G u) 0 0 (tQ X G (tL k)) 74 [(0, .ref G.2.2.1), (1, .int x1), (2, .int x2), (4, .int x4), (5, .long x5), (7, .long x7), (9, .int x9)] [] := by
  intro n
  induction n with
  | zero => intro x1 x2 x4 x5 x7 x9 u hw; exact hw.elim
  | succ n ih =>
  intro x1 x2 x4 x5 x7 x9 u hw
  unfold wt_loss_74 at hw
  refine gk_iload (pc := 74) C.1 6 dX6_loss_74 rfl ?_
  refine gk_iconst (pc := 76) (v := 1) C.1 dX6_loss_76 (by decide) ?_
  refine gk_iload (pc := 77) C.1 3 dX6_loss_77 rfl ?_
  refine gk_ishl (pc := 79) C.1 dX6_loss_79 ?_
  refine gk_icmp_ge (pc := 80) (tgt := 163) C.1 dX6_loss_80 (by decide) (fun c_1 => ?_) (fun c_1 => ?_)
  · replace hw := hw.1 c_1
    refine gk_lload (pc := 163) C.1 4 dX6_loss_163 rfl ?_
    refine gk_lload (pc := 165) C.1 5 dX6_loss_165 rfl ?_
    refine gk_iload_n (pc := 167) C.1 2 dX6_loss_167 rfl rfl ?_
    refine tk_callS (pc := 168) (y := yX6_partOf) (n := 3) (As := [.long x5, .long x7, .int x2]) (rest := []) C (wk_partOf (ev_l X) hG hw) q2665 q2666 q2667 ⟨rfl, by decide +kernel⟩ ⟨by decide, by decide⟩ rfl rfl (Nat.le_of_ble_eq_true rfl) dX6_loss_168 (fun v9 u_2 hp => ?_)
    obtain ⟨r_3, rfl, hw⟩ := hp
    refine GK.at (p2 := 171) rfl ?_
    exact tk_lret (pc := 171) C hret dX6_loss_171 hw
  · replace hw := hw.2 c_1
    refine gk_lconst (pc := 83) (v := 1) C.1 dX6_loss_83 (by decide) ?_
    refine gk_lstore (pc := 84) (lv' := [(10, Value.long 1), (0, Value.ref G.2.2.1), (1, Value.int x1), (2, Value.int x2), (4, Value.int x4), (5, Value.long x5), (7, Value.long x7), (9, Value.int x9)]) C.1 dX6_loss_84 (by rw [hXn]; decide) rfl ?_
    refine gk_iconst (pc := 86) (v := 0) C.1 dX6_loss_86 (by decide) ?_
    refine gk_istore (pc := 87) (lv' := [(12, Value.int 0), (10, Value.long 1), (0, Value.ref G.2.2.1), (1, Value.int x1), (2, Value.int x2), (4, Value.int x4), (5, Value.long x5), (7, Value.long x7), (9, Value.int x9)]) C.1 dX6_loss_87 (by rw [hXn]; decide) rfl ?_
    refine GK.sub (lv' := [(0, .ref G.2.2.1), (1, .int x1), (2, .int x2), (4, .int x4), (5, .long x5), (7, .long x7), (9, .int x9), (10, .long 1), (12, .int 0)]) [2, 3, 4, 5, 6, 7, 8, 1, 0] rfl ?_
    obtain ⟨n9, hw⟩ := hw
    exact kt_loss_89 C hG hret hXn ih n9 _ _ _ _ _ _ _ _ _ hw
def wt_loss_51 (k : Int64 → TS → Prop) : Nat → Int32 → Int32 → Int32 → Int64 → Int64 → Int32 → TS → Prop
  | 0 => fun _ _ _ _ _ _ _ => False
  | n + 1 => fun x1 x2 x4 x5 x7 x9 u => ((x4 ≤ x9 → (∃ fu : Nat, wt_loss_74 k fu x1 x2 x4 x5 x7 0 u)) ∧ (¬ x4 ≤ x9 → (∀ x_2 : Int64, x_2 = x7 * x1.toInt64 → (∀ x_3 : Int32, x_3 = x9 + 1 → (wt_loss_51 k n x1 x2 x4 x5 x_2 x_3 u)))))
theorem kt_loss_51 {X : Ev} {G : TG} {k : Int64 → TS → Prop} (C : TC X G cX6_loss 10) (hG : TD G) (hret : (ev_h X).sig.returnType = some .long) (hXn : ev_n X = 13) : ∀ (n : Nat) (x1 : Int32) (x2 : Int32) (x4 : Int32) (x5 : Int64) (x7 : Int64) (x9 : Int32) (u : TS), wt_loss_51 k n x1 x2 x4 x5 x7 x9 u → GK X (TP G u) 0 0 (tQ X G (tL k)) 51 [(0, .ref G.2.2.1), (1, .int x1), (2, .int x2), (4, .int x4), (5, .long x5), (7, .long x7), (9, .int x9)] [] := by
  intro n
  induction n with
  | zero => intro x1 x2 x4 x5 x7 x9 u hw; exact hw.elim
  | succ n ih =>
  intro x1 x2 x4 x5 x7 x9 u hw
  unfold wt_loss_51 at hw
  refine gk_iload (pc := 51) C.1 6 dX6_loss_51 rfl ?_
  refine gk_iload (pc := 53) C.1 3 dX6_loss_53 rfl ?_
  refine gk_icmp_ge (pc := 55) (tgt := 71) C.1 dX6_loss_55 (by decide) (fun c_1 => ?_) (fun c_1 => ?_)
  · replace hw := hw.1 c_1
    refine gk_iconst (pc := 71) (v := 0) C.1 dX6_loss_71 (by decide) ?_
    refine gk_istore (pc := 72) (lv' := [(9, Value.int 0), (0, Value.ref G.2.2.1), (1, Value.int x1), (2, Value.int x2), (4, Value.int x4), (5, Value.long x5), (7, Value.long x7)]) C.1 dX6_loss_72 (by rw [hXn]; decide) rfl ?_
    refine GK.sub (lv' := [(0, .ref G.2.2.1), (1, .int x1), (2, .int x2), (4, .int x4), (5, .long x5), (7, .long x7), (9, .int 0)]) [1, 2, 3, 4, 5, 6, 0] rfl ?_
    obtain ⟨n9, hw⟩ := hw
    exact kt_loss_74 C hG hret hXn  n9 _ _ _ _ _ _ _ hw
  · replace hw := hw.2 c_1
    refine gk_lload (pc := 58) C.1 5 dX6_loss_58 rfl ?_
    refine gk_iload_n (pc := 60) C.1 1 dX6_loss_60 rfl rfl ?_
    refine gk_i2l (pc := 61) C.1 dX6_loss_61 ?_
    refine gk_lmul (pc := 62) C.1 dX6_loss_62 ?_
    obtain ⟨x_2, ex_2⟩ : ∃ z : Int64, z = x7 * x1.toInt64 := ⟨_, rfl⟩
    rw [← ex_2]
    replace hw := hw x_2 ex_2
    refine gk_lstore (pc := 63) (lv' := [(7, Value.long x_2), (0, Value.ref G.2.2.1), (1, Value.int x1), (2, Value.int x2), (4, Value.int x4), (5, Value.long x5), (9, Value.int x9)]) C.1 dX6_loss_63 (by rw [hXn]; decide) rfl ?_
    obtain ⟨x_3, ex_3⟩ : ∃ z : Int32, z = x9 + 1 := ⟨_, rfl⟩
    replace hw := hw x_3 ex_3
    refine gk_iinc (pc := 65) (v := x_3) (lv' := [(9, Value.int x_3), (7, Value.long x_2), (0, Value.ref G.2.2.1), (1, Value.int x1), (2, Value.int x2), (4, Value.int x4), (5, Value.long x5)]) C.1 6 dX6_loss_65 rfl (by rw [ex_3]; rfl) (by rw [hXn]; decide) rfl ?_
    refine gk_goto (pc := 68) (tgt := 51) C.1 dX6_loss_68 (by decide) ?_
    refine GK.sub (lv' := [(0, .ref G.2.2.1), (1, .int x1), (2, .int x2), (4, .int x4), (5, .long x5), (7, .long x_2), (9, .int x_3)]) [2, 3, 4, 5, 6, 1, 0] rfl ?_
    exact ih _ _ _ _ _ _ _ hw
def wt_loss_24 (k : Int64 → TS → Prop) (x1 : Int32) (x2 : Int32) (x3 : Int32) (u : TS) : Prop := ((x3 = 0 → (wt_numbersUpTo (fun r_3 u_2 => ∃ fu : Nat, wt_loss_51 k fu x1 x2 r_3 0 1 0 u_2) 6 u)) ∧ (¬ x3 = 0 → (wt_lowestOf (fun r_5 u_4 => k r_5 u_4) x3 u)))
theorem kt_loss_24 {X : Ev} {G : TG} {k : Int64 → TS → Prop} (C : TC X G cX6_loss 10) (hG : TD G) (hret : (ev_h X).sig.returnType = some .long) (hXn : ev_n X = 13) : ∀ (x1 : Int32) (x2 : Int32) (x3 : Int32) (u : TS), wt_loss_24 k x1 x2 x3 u → GK X (TP G u) 0 0 (tQ X G (tL k)) 24 [(0, .ref G.2.2.1), (1, .int x1), (2, .int x2), (3, .int x3)] [] := by
  intro x1 x2 x3 u hw
  unfold wt_loss_24 at hw
  refine gk_iload_n (pc := 24) C.1 3 dX6_loss_24 rfl rfl ?_
  refine gk_if_eq (pc := 25) (tgt := 34) C.1 dX6_loss_25 (by decide) (fun c_1 => ?_) (fun c_1 => ?_)
  · replace hw := hw.1 c_1
    refine gk_aload_n (pc := 34) C.1 0 dX6_loss_34 rfl rfl ?_
    refine gk_bipush (pc := 35) (v := 6) C.1 dX6_loss_35 (by decide) ?_
    refine tk_callV (pc := 37) (y := yX6_numbersUpTo) (n := 1) (As := [.int 6]) (rest := []) C (wk_numbersUpTo (ev_l X) hG hw) q2657 q2659 qs131 q2660 ⟨rfl, by decide +kernel⟩ ⟨by decide, by decide⟩ rfl rfl (Nat.le_of_ble_eq_true rfl) dX6_loss_37 (fun v9 u_2 hp => ?_)
    obtain ⟨r_3, rfl, hw⟩ := hp
    refine GK.at (p2 := 40) rfl ?_
    refine gk_istore (pc := 40) (lv' := [(4, Value.int r_3), (0, Value.ref G.2.2.1), (1, Value.int x1), (2, Value.int x2), (3, Value.int x3)]) C.1 dX6_loss_40 (by rw [hXn]; decide) rfl ?_
    refine gk_lconst (pc := 42) (v := 0) C.1 dX6_loss_42 (by decide) ?_
    refine gk_lstore (pc := 43) (lv' := [(5, Value.long 0), (4, Value.int r_3), (0, Value.ref G.2.2.1), (1, Value.int x1), (2, Value.int x2), (3, Value.int x3)]) C.1 dX6_loss_43 (by rw [hXn]; decide) rfl ?_
    refine gk_lconst (pc := 45) (v := 1) C.1 dX6_loss_45 (by decide) ?_
    refine gk_lstore (pc := 46) (lv' := [(7, Value.long 1), (5, Value.long 0), (4, Value.int r_3), (0, Value.ref G.2.2.1), (1, Value.int x1), (2, Value.int x2), (3, Value.int x3)]) C.1 dX6_loss_46 (by rw [hXn]; decide) rfl ?_
    refine gk_iconst (pc := 48) (v := 0) C.1 dX6_loss_48 (by decide) ?_
    refine gk_istore (pc := 49) (lv' := [(9, Value.int 0), (7, Value.long 1), (5, Value.long 0), (4, Value.int r_3), (0, Value.ref G.2.2.1), (1, Value.int x1), (2, Value.int x2), (3, Value.int x3)]) C.1 dX6_loss_49 (by rw [hXn]; decide) rfl ?_
    refine GK.sub (lv' := [(0, .ref G.2.2.1), (1, .int x1), (2, .int x2), (4, .int r_3), (5, .long 0), (7, .long 1), (9, .int 0)]) [4, 5, 6, 3, 2, 1, 0] rfl ?_
    obtain ⟨n9, hw⟩ := hw
    exact kt_loss_51 C hG hret hXn  n9 _ _ _ _ _ _ _ hw
  · replace hw := hw.2 c_1
    refine gk_aload_n (pc := 28) C.1 0 dX6_loss_28 rfl rfl ?_
    refine gk_iload_n (pc := 29) C.1 3 dX6_loss_29 rfl rfl ?_
    refine tk_callV (pc := 30) (y := yX6_lowestOf) (n := 1) (As := [.int x3]) (rest := []) C (wk_lowestOf (ev_l X) hG hw) q2652 q2654 qs130 q2655 ⟨rfl, by decide +kernel⟩ ⟨by decide, by decide⟩ rfl rfl (Nat.le_of_ble_eq_true rfl) dX6_loss_30 (fun v9 u_4 hp => ?_)
    obtain ⟨r_5, rfl, hw⟩ := hp
    refine GK.at (p2 := 33) rfl ?_
    exact tk_lret (pc := 33) C hret dX6_loss_33 hw
def wt_loss (k : Int64 → TS → Prop) (x1 : Int32) (x2 : Int32) (u : TS) : Prop := wt_bound (fun r_2 u_1 => ((¬ r_2 = 0 → (wt_loss_24 k x1 x2 r_2 u_1)) ∧ (r_2 = 0 → (wt_isIn (fun r_5 u_4 => ((¬ r_5 = 0 → (wt_loss_24 k x1 x2 r_2 u_4)) ∧ (r_5 = 0 → (wt_loss_24 k x1 x2 (-2) u_4)))) x2 0 1 u_1)))) x1 2 20 u
theorem wk_loss (l : Launch) {G : TG} (hG : TD G) {k : Int64 → TS → Prop} {x1 : Int32} {x2 : Int32} {u : TS} (hw : wt_loss k x1 x2 u) : TMet l yX6_loss cX6_loss 13 (some .long) 10 G [.ref G.2.2.1, .int x1, .int x2] u (tL k) := by
  refine tk_met hG rfl (Nat.le_of_ble_eq_true rfl) (fun X hXl hXn hret C => ?_)
  subst hXl
  unfold wt_loss at hw
  refine GK.sub (lv' := [(0, .ref G.2.2.1), (1, .int x1), (2, .int x2)]) [0, 1, 2] rfl ?_
  refine gk_iload_n (pc := 0) C.1 1 dX6_loss_0 rfl rfl ?_
  refine gk_iconst (pc := 1) (v := 2) C.1 dX6_loss_1 (by decide) ?_
  refine gk_bipush (pc := 2) (v := 20) C.1 dX6_loss_2 (by decide) ?_
  refine tk_callS (pc := 4) (y := yX6_bound) (n := 3) (As := [.int x1, .int 2, .int 20]) (rest := []) C (wk_bound (ev_l X) hG hw) q2288 q2289 q2290 ⟨rfl, by decide +kernel⟩ ⟨by decide, by decide⟩ rfl rfl (Nat.le_of_ble_eq_true rfl) dX6_loss_4 (fun v9 u_1 hp => ?_)
  obtain ⟨r_2, rfl, hw⟩ := hp
  refine GK.at (p2 := 7) rfl ?_
  refine gk_istore_n (pc := 7) (lv' := [(3, Value.int r_2), (0, Value.ref G.2.2.1), (1, Value.int x1), (2, Value.int x2)]) C.1 dX6_loss_7 rfl (by rw [hXn]; decide) rfl ?_
  refine gk_iload_n (pc := 8) C.1 0 dX6_loss_8 rfl rfl ?_
  refine gk_if_ne (pc := 9) (tgt := 24) C.1 dX6_loss_9 (by decide) (fun c_3 => ?_) (fun c_3 => ?_)
  · replace hw := hw.1 c_3
    refine GK.sub (lv' := [(0, .ref G.2.2.1), (1, .int x1), (2, .int x2), (3, .int r_2)]) [1, 2, 3, 0] rfl ?_
    exact kt_loss_24 C hG hret hXn  _ _ _ _ hw
  · replace hw := hw.2 c_3
    refine gk_iload_n (pc := 12) C.1 3 dX6_loss_12 rfl rfl ?_
    refine gk_iconst (pc := 13) (v := 0) C.1 dX6_loss_13 (by decide) ?_
    refine gk_iconst (pc := 14) (v := 1) C.1 dX6_loss_14 (by decide) ?_
    refine tk_callS (pc := 15) (y := yX6_isIn) (n := 3) (As := [.int x2, .int 0, .int 1]) (rest := []) C (wk_isIn (ev_l X) hG hw) q2323 q2324 q2325 ⟨rfl, by decide +kernel⟩ ⟨by decide, by decide⟩ rfl rfl (Nat.le_of_ble_eq_true rfl) dX6_loss_15 (fun v9 u_4 hp => ?_)
    obtain ⟨r_5, rfl, hw⟩ := hp
    refine GK.at (p2 := 18) rfl ?_
    refine gk_if_ne (pc := 18) (tgt := 24) C.1 dX6_loss_18 (by decide) (fun c_6 => ?_) (fun c_6 => ?_)
    · replace hw := hw.1 c_6
      refine GK.sub (lv' := [(0, .ref G.2.2.1), (1, .int x1), (2, .int x2), (3, .int r_2)]) [1, 2, 3, 0] rfl ?_
      exact kt_loss_24 C hG hret hXn  _ _ _ _ hw
    · replace hw := hw.2 c_6
      refine gk_bipush (pc := 21) (v := (-2)) C.1 dX6_loss_21 (by decide) ?_
      refine gk_istore_n (pc := 23) (lv' := [(3, Value.int (-2)), (0, Value.ref G.2.2.1), (1, Value.int x1), (2, Value.int x2)]) C.1 dX6_loss_23 rfl (by rw [hXn]; decide) rfl ?_
      refine GK.sub (lv' := [(0, .ref G.2.2.1), (1, .int x1), (2, .int x2), (3, .int (-2))]) [1, 2, 3, 0] rfl ?_
      exact kt_loss_24 C hG hret hXn  _ _ _ _ hw
/-! lots(III)I -/
def wt_lots_106 (k : Int32 → TS → Prop) (J50 : Int32 → Int32 → Int32 → Int32 → TS → Prop) (x1 : Int32) (x3 : Int32) (x6 : Int32) (s0 : Int32) (s1 : Int32) (u : TS) : Prop := ∀ x_1 : Int32, x_1 = s0 + s1 → (wt_forgets (fun u_2 => ∀ x_3 : Int32, x_3 = x6 + 1 → (J50 x1 x3 x_1 x_3 u_2)) u)
theorem kt_lots_106 {X : Ev} {G : TG} {k : Int32 → TS → Prop} {J50 : Int32 → Int32 → Int32 → Int32 → TS → Prop} (C : TC X G cX6_lots 10) (hG : TD G) (hret : (ev_h X).sig.returnType = some .int) (hXn : ev_n X = 8) (hJ50 : ∀ (x1 : Int32) (x3 : Int32) (x5 : Int32) (x6 : Int32) (u : TS), J50 x1 x3 x5 x6 u → GK X (TP G u) 0 0 (tQ X G (tI k)) 50 [(0, .ref G.2.2.1), (1, .int x1), (3, .int x3), (5, .int x5), (6, .int x6)] []) : ∀ (x1 : Int32) (x3 : Int32) (x6 : Int32) (s0 : Int32) (s1 : Int32) (u : TS), wt_lots_106 k J50 x1 x3 x6 s0 s1 u → GK X (TP G u) 0 0 (tQ X G (tI k)) 106 [(0, .ref G.2.2.1), (1, .int x1), (3, .int x3), (6, .int x6)] [.int s1, .int s0] := by
  intro x1 x3 x6 s0 s1 u hw
  unfold wt_lots_106 at hw
  refine gk_iadd (pc := 106) C.1 dX6_lots_106 ?_
  obtain ⟨x_1, ex_1⟩ : ∃ z : Int32, z = s0 + s1 := ⟨_, rfl⟩
  rw [← ex_1]
  replace hw := hw x_1 ex_1
  refine gk_istore (pc := 107) (lv' := [(5, Value.int x_1), (0, Value.ref G.2.2.1), (1, Value.int x1), (3, Value.int x3), (6, Value.int x6)]) C.1 dX6_lots_107 (by rw [hXn]; decide) rfl ?_
  refine gk_aload_n (pc := 109) C.1 1 dX6_lots_109 rfl rfl ?_
  refine tk_callV (pc := 110) (y := yX6_forgets) (n := 0) (As := []) (rest := []) C (wk_forgets (ev_l X) hG hw) q2632 q2634 qs128 q2635 ⟨rfl, by decide +kernel⟩ ⟨by decide, by decide⟩ rfl rfl (Nat.le_of_ble_eq_true rfl) dX6_lots_110 (fun v9 u_2 hp => ?_)
  obtain ⟨rfl, hw⟩ := hp
  refine GK.at (p2 := 113) rfl ?_
  obtain ⟨x_3, ex_3⟩ : ∃ z : Int32, z = x6 + 1 := ⟨_, rfl⟩
  replace hw := hw x_3 ex_3
  refine gk_iinc (pc := 113) (v := x_3) (lv' := [(6, Value.int x_3), (5, Value.int x_1), (0, Value.ref G.2.2.1), (1, Value.int x1), (3, Value.int x3)]) C.1 4 dX6_lots_113 rfl (by rw [ex_3]; rfl) (by rw [hXn]; decide) rfl ?_
  refine gk_goto (pc := 116) (tgt := 50) C.1 dX6_lots_116 (by decide) ?_
  refine GK.sub (lv' := [(0, .ref G.2.2.1), (1, .int x1), (3, .int x3), (5, .int x_1), (6, .int x_3)]) [2, 3, 4, 1, 0] rfl ?_
  exact hJ50 _ _ _ _ _ hw
def wt_lots_63 (k : Int32 → TS → Prop) (J50 : Int32 → Int32 → Int32 → Int32 → TS → Prop) : Nat → Int32 → Int32 → Int32 → Int32 → Int32 → TS → Prop
  | 0 => fun _ _ _ _ _ _ => False
  | n + 1 => fun x1 x3 x5 x6 x7 u => ((4 ≤ x7 → (wt_manyNow (fun r_3 u_2 => ((¬ x3 = 0 → (((¬ r_3 = 0 → (wt_lots_106 k J50 x1 x3 x6 x5 0 u_2)) ∧ (r_3 = 0 → (wt_lots_106 k J50 x1 x3 x6 x5 1 u_2))))) ∧ (x3 = 0 → (wt_lots_106 k J50 x1 x3 x6 x5 r_3 u_2)))) u)) ∧ (¬ 4 ≤ x7 → (wt_changesByLot (fun u_6 => ∀ x_7 : Int32, x_7 = x7 + 1 → (wt_lots_63 k J50 n x1 x3 x5 x6 x_7 u_6)) u)))
theorem kt_lots_63 {X : Ev} {G : TG} {k : Int32 → TS → Prop} {J50 : Int32 → Int32 → Int32 → Int32 → TS → Prop} (C : TC X G cX6_lots 10) (hG : TD G) (hret : (ev_h X).sig.returnType = some .int) (hXn : ev_n X = 8) (hJ50 : ∀ (x1 : Int32) (x3 : Int32) (x5 : Int32) (x6 : Int32) (u : TS), J50 x1 x3 x5 x6 u → GK X (TP G u) 0 0 (tQ X G (tI k)) 50 [(0, .ref G.2.2.1), (1, .int x1), (3, .int x3), (5, .int x5), (6, .int x6)] []) : ∀ (n : Nat) (x1 : Int32) (x3 : Int32) (x5 : Int32) (x6 : Int32) (x7 : Int32) (u : TS), wt_lots_63 k J50 n x1 x3 x5 x6 x7 u → GK X (TP G u) 0 0 (tQ X G (tI k)) 63 [(0, .ref G.2.2.1), (1, .int x1), (3, .int x3), (5, .int x5), (6, .int x6), (7, .int x7)] [] := by
  intro n
  induction n with
  | zero => intro x1 x3 x5 x6 x7 u hw; exact hw.elim
  | succ n ih =>
  intro x1 x3 x5 x6 x7 u hw
  unfold wt_lots_63 at hw
  refine gk_iload (pc := 63) C.1 5 dX6_lots_63 rfl ?_
  refine gk_iconst (pc := 65) (v := 4) C.1 dX6_lots_65 (by decide) ?_
  refine gk_icmp_ge (pc := 66) (tgt := 79) C.1 dX6_lots_66 (by decide) (fun c_1 => ?_) (fun c_1 => ?_)
  · replace hw := hw.1 c_1
    refine gk_aload_n (pc := 79) C.1 0 dX6_lots_79 rfl rfl ?_
    refine tk_callV (pc := 80) (y := yX6_manyNow) (n := 0) (As := []) (rest := []) C (wk_manyNow (ev_l X) hG hw) q2457 q2459 qs97 q2460 ⟨rfl, by decide +kernel⟩ ⟨by decide, by decide⟩ rfl rfl (Nat.le_of_ble_eq_true rfl) dX6_lots_80 (fun v9 u_2 hp => ?_)
    obtain ⟨r_3, rfl, hw⟩ := hp
    refine GK.at (p2 := 83) rfl ?_
    refine gk_istore (pc := 83) (lv' := [(7, Value.int r_3), (0, Value.ref G.2.2.1), (1, Value.int x1), (3, Value.int x3), (5, Value.int x5), (6, Value.int x6)]) C.1 dX6_lots_83 (by rw [hXn]; decide) rfl ?_
    refine gk_iload (pc := 85) C.1 4 dX6_lots_85 rfl ?_
    refine gk_iload_n (pc := 87) C.1 3 dX6_lots_87 rfl rfl ?_
    refine gk_if_ne (pc := 88) (tgt := 96) C.1 dX6_lots_88 (by decide) (fun c_4 => ?_) (fun c_4 => ?_)
    · replace hw := hw.1 c_4
      refine gk_iload (pc := 96) C.1 0 dX6_lots_96 rfl ?_
      refine gk_if_ne (pc := 98) (tgt := 105) C.1 dX6_lots_98 (by decide) (fun c_5 => ?_) (fun c_5 => ?_)
      · replace hw := hw.1 c_5
        refine gk_iconst (pc := 105) (v := 0) C.1 dX6_lots_105 (by decide) ?_
        refine GK.sub (lv' := [(0, .ref G.2.2.1), (1, .int x1), (3, .int x3), (6, .int x6)]) [1, 2, 3, 5] rfl ?_
        exact kt_lots_106 C hG hret hXn hJ50 _ _ _ _ _ _ hw
      · replace hw := hw.2 c_5
        refine gk_iconst (pc := 101) (v := 1) C.1 dX6_lots_101 (by decide) ?_
        refine gk_goto (pc := 102) (tgt := 106) C.1 dX6_lots_102 (by decide) ?_
        refine GK.sub (lv' := [(0, .ref G.2.2.1), (1, .int x1), (3, .int x3), (6, .int x6)]) [1, 2, 3, 5] rfl ?_
        exact kt_lots_106 C hG hret hXn hJ50 _ _ _ _ _ _ hw
    · replace hw := hw.2 c_4
      refine gk_iload (pc := 91) C.1 0 dX6_lots_91 rfl ?_
      refine gk_goto (pc := 93) (tgt := 106) C.1 dX6_lots_93 (by decide) ?_
      refine GK.sub (lv' := [(0, .ref G.2.2.1), (1, .int x1), (3, .int x3), (6, .int x6)]) [1, 2, 3, 5] rfl ?_
      exact kt_lots_106 C hG hret hXn hJ50 _ _ _ _ _ _ hw
  · replace hw := hw.2 c_1
    refine gk_aload_n (pc := 69) C.1 0 dX6_lots_69 rfl rfl ?_
    refine tk_callV (pc := 70) (y := yX6_changesByLot) (n := 0) (As := []) (rest := []) C (wk_changesByLot (ev_l X) hG hw) q2699 q2701 qs134 q2702 ⟨rfl, by decide +kernel⟩ ⟨by decide, by decide⟩ rfl rfl (Nat.le_of_ble_eq_true rfl) dX6_lots_70 (fun v9 u_6 hp => ?_)
    obtain ⟨rfl, hw⟩ := hp
    refine GK.at (p2 := 73) rfl ?_
    obtain ⟨x_7, ex_7⟩ : ∃ z : Int32, z = x7 + 1 := ⟨_, rfl⟩
    replace hw := hw x_7 ex_7
    refine gk_iinc (pc := 73) (v := x_7) (lv' := [(7, Value.int x_7), (0, Value.ref G.2.2.1), (1, Value.int x1), (3, Value.int x3), (5, Value.int x5), (6, Value.int x6)]) C.1 5 dX6_lots_73 rfl (by rw [ex_7]; rfl) (by rw [hXn]; decide) rfl ?_
    refine gk_goto (pc := 76) (tgt := 63) C.1 dX6_lots_76 (by decide) ?_
    refine GK.sub (lv' := [(0, .ref G.2.2.1), (1, .int x1), (3, .int x3), (5, .int x5), (6, .int x6), (7, .int x_7)]) [1, 2, 3, 4, 5, 0] rfl ?_
    exact ih _ _ _ _ _ _ hw
def wt_lots_50 (k : Int32 → TS → Prop) : Nat → Int32 → Int32 → Int32 → Int32 → TS → Prop
  | 0 => fun _ _ _ _ _ => False
  | n + 1 => fun x1 x3 x5 x6 u => ((x1 ≤ x6 → (k x5 u)) ∧ (¬ x1 ≤ x6 → (wt_minds (fun u_2 => ∃ fu : Nat, wt_lots_63 k (fun yx1 yx3 yx5 yx6 yu => wt_lots_50 k n yx1 yx3 yx5 yx6 yu) fu x1 x3 x5 x6 0 u_2) u)))
theorem kt_lots_50 {X : Ev} {G : TG} {k : Int32 → TS → Prop} (C : TC X G cX6_lots 10) (hG : TD G) (hret : (ev_h X).sig.returnType = some .int) (hXn : ev_n X = 8) : ∀ (n : Nat) (x1 : Int32) (x3 : Int32) (x5 : Int32) (x6 : Int32) (u : TS), wt_lots_50 k n x1 x3 x5 x6 u → GK X (TP G u) 0 0 (tQ X G (tI k)) 50 [(0, .ref G.2.2.1), (1, .int x1), (3, .int x3), (5, .int x5), (6, .int x6)] [] := by
  intro n
  induction n with
  | zero => intro x1 x3 x5 x6 u hw; exact hw.elim
  | succ n ih =>
  intro x1 x3 x5 x6 u hw
  unfold wt_lots_50 at hw
  refine gk_iload (pc := 50) C.1 4 dX6_lots_50 rfl ?_
  refine gk_iload_n (pc := 52) C.1 1 dX6_lots_52 rfl rfl ?_
  refine gk_icmp_ge (pc := 53) (tgt := 119) C.1 dX6_lots_53 (by decide) (fun c_1 => ?_) (fun c_1 => ?_)
  · replace hw := hw.1 c_1
    refine gk_iload (pc := 119) C.1 3 dX6_lots_119 rfl ?_
    exact tk_iret (pc := 121) C hret dX6_lots_121 hw
  · replace hw := hw.2 c_1
    refine gk_aload_n (pc := 56) C.1 0 dX6_lots_56 rfl rfl ?_
    refine tk_callV (pc := 57) (y := yX6_minds) (n := 0) (As := []) (rest := []) C (wk_minds (ev_l X) hG hw) q2624 q2626 qs126 q2627 ⟨rfl, by decide +kernel⟩ ⟨by decide, by decide⟩ rfl rfl (Nat.le_of_ble_eq_true rfl) dX6_lots_57 (fun v9 u_2 hp => ?_)
    obtain ⟨rfl, hw⟩ := hp
    refine GK.at (p2 := 60) rfl ?_
    refine gk_iconst (pc := 60) (v := 0) C.1 dX6_lots_60 (by decide) ?_
    refine gk_istore (pc := 61) (lv' := [(7, Value.int 0), (0, Value.ref G.2.2.1), (1, Value.int x1), (3, Value.int x3), (5, Value.int x5), (6, Value.int x6)]) C.1 dX6_lots_61 (by rw [hXn]; decide) rfl ?_
    refine GK.sub (lv' := [(0, .ref G.2.2.1), (1, .int x1), (3, .int x3), (5, .int x5), (6, .int x6), (7, .int 0)]) [1, 2, 3, 4, 5, 0] rfl ?_
    obtain ⟨n9, hw⟩ := hw
    exact kt_lots_63 C hG hret hXn ih n9 _ _ _ _ _ _ hw
def wt_lots_27 (k : Int32 → TS → Prop) (x1 : Int32) (x2 : Int32) (x3 : Int32) (x4 : Int32) (u : TS) : Prop := ((x4 = 0 → (∀ u_2 : TS, u_2 = tpI u 53 x2 → (∃ fu : Nat, wt_lots_50 k fu x1 x3 0 0 u_2))) ∧ (¬ x4 = 0 → (wt_no (fun r_4 u_3 => k r_4 u_3) x4 u)))
theorem kt_lots_27 {X : Ev} {G : TG} {k : Int32 → TS → Prop} (C : TC X G cX6_lots 10) (hG : TD G) (hret : (ev_h X).sig.returnType = some .int) (hXn : ev_n X = 8) : ∀ (x1 : Int32) (x2 : Int32) (x3 : Int32) (x4 : Int32) (u : TS), wt_lots_27 k x1 x2 x3 x4 u → GK X (TP G u) 0 0 (tQ X G (tI k)) 27 [(0, .ref G.2.2.1), (1, .int x1), (2, .int x2), (3, .int x3), (4, .int x4)] [] := by
  intro x1 x2 x3 x4 u hw
  unfold wt_lots_27 at hw
  refine gk_iload (pc := 27) C.1 4 dX6_lots_27 rfl ?_
  refine gk_if_eq (pc := 29) (tgt := 39) C.1 dX6_lots_29 (by decide) (fun c_1 => ?_) (fun c_1 => ?_)
  · replace hw := hw.1 c_1
    refine gk_aload_n (pc := 39) C.1 0 dX6_lots_39 rfl rfl ?_
    refine gk_iload_n (pc := 40) C.1 2 dX6_lots_40 rfl rfl ?_
    refine tk_putI (pc := 41) C (k := 53) (by decide) (by decide) q2174 rfl rfl (ty := .int) rfl rfl rfl dX6_lots_41 (fun u_2 eu_2 => ?_)
    replace hw := hw u_2 eu_2
    refine gk_iconst (pc := 44) (v := 0) C.1 dX6_lots_44 (by decide) ?_
    refine gk_istore (pc := 45) (lv' := [(5, Value.int 0), (0, Value.ref G.2.2.1), (1, Value.int x1), (2, Value.int x2), (3, Value.int x3), (4, Value.int x4)]) C.1 dX6_lots_45 (by rw [hXn]; decide) rfl ?_
    refine gk_iconst (pc := 47) (v := 0) C.1 dX6_lots_47 (by decide) ?_
    refine gk_istore (pc := 48) (lv' := [(6, Value.int 0), (5, Value.int 0), (0, Value.ref G.2.2.1), (1, Value.int x1), (2, Value.int x2), (3, Value.int x3), (4, Value.int x4)]) C.1 dX6_lots_48 (by rw [hXn]; decide) rfl ?_
    refine GK.sub (lv' := [(0, .ref G.2.2.1), (1, .int x1), (3, .int x3), (5, .int 0), (6, .int 0)]) [2, 3, 5, 1, 0] rfl ?_
    obtain ⟨n9, hw⟩ := hw
    exact kt_lots_50 C hG hret hXn  n9 _ _ _ _ _ hw
  · replace hw := hw.2 c_1
    refine gk_aload_n (pc := 32) C.1 0 dX6_lots_32 rfl rfl ?_
    refine gk_iload (pc := 33) C.1 4 dX6_lots_33 rfl ?_
    refine tk_callV (pc := 35) (y := yX6_no) (n := 1) (As := [.int x4]) (rest := []) C (wk_no (ev_l X) hG hw) q2291 q2293 qs66 q2294 ⟨rfl, by decide +kernel⟩ ⟨by decide, by decide⟩ rfl rfl (Nat.le_of_ble_eq_true rfl) dX6_lots_35 (fun v9 u_3 hp => ?_)
    obtain ⟨r_4, rfl, hw⟩ := hp
    refine GK.at (p2 := 38) rfl ?_
    exact tk_iret (pc := 38) C hret dX6_lots_38 hw
def wt_lots (k : Int32 → TS → Prop) (x1 : Int32) (x2 : Int32) (x3 : Int32) (u : TS) : Prop := wt_bound (fun r_2 u_1 => ((¬ r_2 = 0 → (wt_lots_27 k x1 x2 x3 r_2 u_1)) ∧ (r_2 = 0 → (wt_isIn (fun r_5 u_4 => ((¬ r_5 = 0 → (wt_lots_27 k x1 x2 x3 r_2 u_4)) ∧ (r_5 = 0 → (wt_lots_27 k x1 x2 x3 (-2) u_4)))) x3 0 1 u_1)))) x1 1 20 u
theorem wk_lots (l : Launch) {G : TG} (hG : TD G) {k : Int32 → TS → Prop} {x1 : Int32} {x2 : Int32} {x3 : Int32} {u : TS} (hw : wt_lots k x1 x2 x3 u) : TMet l yX6_lots cX6_lots 8 (some .int) 10 G [.ref G.2.2.1, .int x1, .int x2, .int x3] u (tI k) := by
  refine tk_met hG rfl (Nat.le_of_ble_eq_true rfl) (fun X hXl hXn hret C => ?_)
  subst hXl
  unfold wt_lots at hw
  refine GK.sub (lv' := [(0, .ref G.2.2.1), (1, .int x1), (2, .int x2), (3, .int x3)]) [0, 1, 2, 3] rfl ?_
  refine gk_iload_n (pc := 0) C.1 1 dX6_lots_0 rfl rfl ?_
  refine gk_iconst (pc := 1) (v := 1) C.1 dX6_lots_1 (by decide) ?_
  refine gk_bipush (pc := 2) (v := 20) C.1 dX6_lots_2 (by decide) ?_
  refine tk_callS (pc := 4) (y := yX6_bound) (n := 3) (As := [.int x1, .int 1, .int 20]) (rest := []) C (wk_bound (ev_l X) hG hw) q2288 q2289 q2290 ⟨rfl, by decide +kernel⟩ ⟨by decide, by decide⟩ rfl rfl (Nat.le_of_ble_eq_true rfl) dX6_lots_4 (fun v9 u_1 hp => ?_)
  obtain ⟨r_2, rfl, hw⟩ := hp
  refine GK.at (p2 := 7) rfl ?_
  refine gk_istore (pc := 7) (lv' := [(4, Value.int r_2), (0, Value.ref G.2.2.1), (1, Value.int x1), (2, Value.int x2), (3, Value.int x3)]) C.1 dX6_lots_7 (by rw [hXn]; decide) rfl ?_
  refine gk_iload (pc := 9) C.1 0 dX6_lots_9 rfl ?_
  refine gk_if_ne (pc := 11) (tgt := 27) C.1 dX6_lots_11 (by decide) (fun c_3 => ?_) (fun c_3 => ?_)
  · replace hw := hw.1 c_3
    refine GK.sub (lv' := [(0, .ref G.2.2.1), (1, .int x1), (2, .int x2), (3, .int x3), (4, .int r_2)]) [1, 2, 3, 4, 0] rfl ?_
    exact kt_lots_27 C hG hret hXn  _ _ _ _ _ hw
  · replace hw := hw.2 c_3
    refine gk_iload_n (pc := 14) C.1 4 dX6_lots_14 rfl rfl ?_
    refine gk_iconst (pc := 15) (v := 0) C.1 dX6_lots_15 (by decide) ?_
    refine gk_iconst (pc := 16) (v := 1) C.1 dX6_lots_16 (by decide) ?_
    refine tk_callS (pc := 17) (y := yX6_isIn) (n := 3) (As := [.int x3, .int 0, .int 1]) (rest := []) C (wk_isIn (ev_l X) hG hw) q2323 q2324 q2325 ⟨rfl, by decide +kernel⟩ ⟨by decide, by decide⟩ rfl rfl (Nat.le_of_ble_eq_true rfl) dX6_lots_17 (fun v9 u_4 hp => ?_)
    obtain ⟨r_5, rfl, hw⟩ := hp
    refine GK.at (p2 := 20) rfl ?_
    refine gk_if_ne (pc := 20) (tgt := 27) C.1 dX6_lots_20 (by decide) (fun c_6 => ?_) (fun c_6 => ?_)
    · replace hw := hw.1 c_6
      refine GK.sub (lv' := [(0, .ref G.2.2.1), (1, .int x1), (2, .int x2), (3, .int x3), (4, .int r_2)]) [1, 2, 3, 4, 0] rfl ?_
      exact kt_lots_27 C hG hret hXn  _ _ _ _ _ hw
    · replace hw := hw.2 c_6
      refine gk_bipush (pc := 23) (v := (-2)) C.1 dX6_lots_23 (by decide) ?_
      refine gk_istore (pc := 25) (lv' := [(4, Value.int (-2)), (0, Value.ref G.2.2.1), (1, Value.int x1), (2, Value.int x2), (3, Value.int x3)]) C.1 dX6_lots_25 (by rw [hXn]; decide) rfl ?_
      refine GK.sub (lv' := [(0, .ref G.2.2.1), (1, .int x1), (2, .int x2), (3, .int x3), (4, .int (-2))]) [1, 2, 3, 4, 0] rfl ?_
      exact kt_lots_27 C hG hret hXn  _ _ _ _ _ hw
/-! mean(I)J -/
def wt_mean (k : Int64 → TS → Prop) (x1 : Int32) (u : TS) : Prop := wt_isIn (fun r_2 u_1 => ((¬ r_2 = 0 → (wt_manyNow (fun r_5 u_4 => wt_partOf (fun r_7 u_6 => k r_7 u_6) r_5.toInt64 ((u_4.2 6).toInt64) x1 u_4) u_1)) ∧ (r_2 = 0 → (wt_lowestOf (fun r_9 u_8 => k r_9 u_8) (-2) u_1)))) x1 0 1 u
theorem wk_mean (l : Launch) {G : TG} (hG : TD G) {k : Int64 → TS → Prop} {x1 : Int32} {u : TS} (hw : wt_mean k x1 u) : TMet l yX6_mean cX6_mean 2 (some .long) 10 G [.ref G.2.2.1, .int x1] u (tL k) := by
  refine tk_met hG rfl (Nat.le_of_ble_eq_true rfl) (fun X hXl hXn hret C => ?_)
  subst hXl
  unfold wt_mean at hw
  refine GK.sub (lv' := [(0, .ref G.2.2.1), (1, .int x1)]) [0, 1] rfl ?_
  refine gk_iload_n (pc := 0) C.1 1 dX6_mean_0 rfl rfl ?_
  refine gk_iconst (pc := 1) (v := 0) C.1 dX6_mean_1 (by decide) ?_
  refine gk_iconst (pc := 2) (v := 1) C.1 dX6_mean_2 (by decide) ?_
  refine tk_callS (pc := 3) (y := yX6_isIn) (n := 3) (As := [.int x1, .int 0, .int 1]) (rest := []) C (wk_isIn (ev_l X) hG hw) q2323 q2324 q2325 ⟨rfl, by decide +kernel⟩ ⟨by decide, by decide⟩ rfl rfl (Nat.le_of_ble_eq_true rfl) dX6_mean_3 (fun v9 u_1 hp => ?_)
  obtain ⟨r_2, rfl, hw⟩ := hp
  refine GK.at (p2 := 6) rfl ?_
  refine gk_if_ne (pc := 6) (tgt := 16) C.1 dX6_mean_6 (by decide) (fun c_3 => ?_) (fun c_3 => ?_)
  · replace hw := hw.1 c_3
    refine gk_aload_n (pc := 16) C.1 0 dX6_mean_16 rfl rfl ?_
    refine tk_callV (pc := 17) (y := yX6_manyNow) (n := 0) (As := []) (rest := []) C (wk_manyNow (ev_l X) hG hw) q2457 q2459 qs97 q2460 ⟨rfl, by decide +kernel⟩ ⟨by decide, by decide⟩ rfl rfl (Nat.le_of_ble_eq_true rfl) dX6_mean_17 (fun v9 u_4 hp => ?_)
    obtain ⟨r_5, rfl, hw⟩ := hp
    refine GK.at (p2 := 20) rfl ?_
    refine gk_i2l (pc := 20) C.1 dX6_mean_20 ?_
    refine gk_aload_n (pc := 21) C.1 0 dX6_mean_21 rfl rfl ?_
    refine tk_getI (pc := 22) C (k := 6) (by decide) (by decide) q2127 rfl dX6_mean_22 ?_
    refine gk_i2l (pc := 25) C.1 dX6_mean_25 ?_
    refine gk_iload_n (pc := 26) C.1 1 dX6_mean_26 rfl rfl ?_
    refine tk_callS (pc := 27) (y := yX6_partOf) (n := 3) (As := [.long r_5.toInt64, .long ((u_4.2 6).toInt64), .int x1]) (rest := []) C (wk_partOf (ev_l X) hG hw) q2665 q2666 q2667 ⟨rfl, by decide +kernel⟩ ⟨by decide, by decide⟩ rfl rfl (Nat.le_of_ble_eq_true rfl) dX6_mean_27 (fun v9 u_6 hp => ?_)
    obtain ⟨r_7, rfl, hw⟩ := hp
    refine GK.at (p2 := 30) rfl ?_
    exact tk_lret (pc := 30) C hret dX6_mean_30 hw
  · replace hw := hw.2 c_3
    refine gk_aload_n (pc := 9) C.1 0 dX6_mean_9 rfl rfl ?_
    refine gk_bipush (pc := 10) (v := (-2)) C.1 dX6_mean_10 (by decide) ?_
    refine tk_callV (pc := 12) (y := yX6_lowestOf) (n := 1) (As := [.int (-2)]) (rest := []) C (wk_lowestOf (ev_l X) hG hw) q2652 q2654 qs130 q2655 ⟨rfl, by decide +kernel⟩ ⟨by decide, by decide⟩ rfl rfl (Nat.le_of_ble_eq_true rfl) dX6_mean_12 (fun v9 u_8 hp => ?_)
    obtain ⟨r_9, rfl, hw⟩ := hp
    refine GK.at (p2 := 15) rfl ?_
    exact tk_lret (pc := 15) C hret dX6_mean_15 hw
/-! mend(I)I -/
def wt_mend_82 (k : Int32 → TS → Prop) (J27 : Int32 → Int32 → Int32 → Int32 → TS → Prop) (J39 : Int32 → Int32 → Int32 → Int32 → Int32 → TS → Prop) (x1 : Int32) (x2 : Int32) (x3 : Int32) (x4 : Int32) (x5 : Int32) (u : TS) : Prop := ∀ x_1 : Int32, x_1 = x5 + 1 → (J39 x1 x2 x3 x4 x_1 u)
theorem kt_mend_82 {X : Ev} {G : TG} {k : Int32 → TS → Prop} {J27 : Int32 → Int32 → Int32 → Int32 → TS → Prop} {J39 : Int32 → Int32 → Int32 → Int32 → Int32 → TS → Prop} (C : TC X G cX6_mend 11) (hG : TD G) (hret : (ev_h X).sig.returnType = some .int) (hXn : ev_n X = 7) (hJ27 : ∀ (x1 : Int32) (x2 : Int32) (x3 : Int32) (x4 : Int32) (u : TS), J27 x1 x2 x3 x4 u → GK X (TP G u) 0 0 (tQ X G (tI k)) 27 [(0, .ref G.2.2.1), (1, .int x1), (2, .int x2), (3, .int x3), (4, .int x4)] []) (hJ39 : ∀ (x1 : Int32) (x2 : Int32) (x3 : Int32) (x4 : Int32) (x5 : Int32) (u : TS), J39 x1 x2 x3 x4 x5 u → GK X (TP G u) 0 0 (tQ X G (tI k)) 39 [(0, .ref G.2.2.1), (1, .int x1), (2, .int x2), (3, .int x3), (4, .int x4), (5, .int x5)] []) : ∀ (x1 : Int32) (x2 : Int32) (x3 : Int32) (x4 : Int32) (x5 : Int32) (u : TS), wt_mend_82 k J27 J39 x1 x2 x3 x4 x5 u → GK X (TP G u) 0 0 (tQ X G (tI k)) 82 [(0, .ref G.2.2.1), (1, .int x1), (2, .int x2), (3, .int x3), (4, .int x4), (5, .int x5)] [] := by
  intro x1 x2 x3 x4 x5 u hw
  unfold wt_mend_82 at hw
  obtain ⟨x_1, ex_1⟩ : ∃ z : Int32, z = x5 + 1 := ⟨_, rfl⟩
  replace hw := hw x_1 ex_1
  refine gk_iinc (pc := 82) (v := x_1) (lv' := [(5, Value.int x_1), (0, Value.ref G.2.2.1), (1, Value.int x1), (2, Value.int x2), (3, Value.int x3), (4, Value.int x4)]) C.1 5 dX6_mend_82 rfl (by rw [ex_1]; rfl) (by rw [hXn]; decide) rfl ?_
  refine gk_goto (pc := 85) (tgt := 39) C.1 dX6_mend_85 (by decide) ?_
  refine GK.sub (lv' := [(0, .ref G.2.2.1), (1, .int x1), (2, .int x2), (3, .int x3), (4, .int x4), (5, .int x_1)]) [1, 2, 3, 4, 5, 0] rfl ?_
  exact hJ39 _ _ _ _ _ _ hw
def wt_mend_39 (k : Int32 → TS → Prop) (J27 : Int32 → Int32 → Int32 → Int32 → TS → Prop) : Nat → Int32 → Int32 → Int32 → Int32 → Int32 → TS → Prop
  | 0 => fun _ _ _ _ _ _ => False
  | n + 1 => fun x1 x2 x3 x4 x5 u => ((20 < x5 → (∀ x_2 : Int32, x_2 = x4 + 1 → (J27 x1 x2 x3 x_2 u))) ∧ (¬ 20 < x5 → (wt_faultsWith (fun r_4 u_3 => ((r_4 < x3 → (vp_in x4 21 ∧ (∀ x_6 : Int32, x_6 = (100 * (u_3.1 5 x4.toNatClampNeg)) + x5 → (wt_mend_82 k J27 (fun yx1 yx2 yx3 yx4 yx5 yu => wt_mend_39 k J27 n yx1 yx2 yx3 yx4 yx5 yu) x1 x_6 r_4 x4 x5 u_3)))) ∧ (¬ r_4 < x3 → (wt_mend_82 k J27 (fun yx1 yx2 yx3 yx4 yx5 yu => wt_mend_39 k J27 n yx1 yx2 yx3 yx4 yx5 yu) x1 x2 x3 x4 x5 u_3)))) x4 x5 u)))
theorem kt_mend_39 {X : Ev} {G : TG} {k : Int32 → TS → Prop} {J27 : Int32 → Int32 → Int32 → Int32 → TS → Prop} (C : TC X G cX6_mend 11) (hG : TD G) (hret : (ev_h X).sig.returnType = some .int) (hXn : ev_n X = 7) (hJ27 : ∀ (x1 : Int32) (x2 : Int32) (x3 : Int32) (x4 : Int32) (u : TS), J27 x1 x2 x3 x4 u → GK X (TP G u) 0 0 (tQ X G (tI k)) 27 [(0, .ref G.2.2.1), (1, .int x1), (2, .int x2), (3, .int x3), (4, .int x4)] []) : ∀ (n : Nat) (x1 : Int32) (x2 : Int32) (x3 : Int32) (x4 : Int32) (x5 : Int32) (u : TS), wt_mend_39 k J27 n x1 x2 x3 x4 x5 u → GK X (TP G u) 0 0 (tQ X G (tI k)) 39 [(0, .ref G.2.2.1), (1, .int x1), (2, .int x2), (3, .int x3), (4, .int x4), (5, .int x5)] [] := by
  intro n
  induction n with
  | zero => intro x1 x2 x3 x4 x5 u hw; exact hw.elim
  | succ n ih =>
  intro x1 x2 x3 x4 x5 u hw
  unfold wt_mend_39 at hw
  refine gk_iload (pc := 39) C.1 5 dX6_mend_39 rfl ?_
  refine gk_bipush (pc := 41) (v := 20) C.1 dX6_mend_41 (by decide) ?_
  refine gk_icmp_gt (pc := 43) (tgt := 88) C.1 dX6_mend_43 (by decide) (fun c_1 => ?_) (fun c_1 => ?_)
  · replace hw := hw.1 c_1
    obtain ⟨x_2, ex_2⟩ : ∃ z : Int32, z = x4 + 1 := ⟨_, rfl⟩
    replace hw := hw x_2 ex_2
    refine gk_iinc (pc := 88) (v := x_2) (lv' := [(4, Value.int x_2), (0, Value.ref G.2.2.1), (1, Value.int x1), (2, Value.int x2), (3, Value.int x3), (5, Value.int x5)]) C.1 4 dX6_mend_88 rfl (by rw [ex_2]; rfl) (by rw [hXn]; decide) rfl ?_
    refine gk_goto (pc := 91) (tgt := 27) C.1 dX6_mend_91 (by decide) ?_
    refine GK.sub (lv' := [(0, .ref G.2.2.1), (1, .int x1), (2, .int x2), (3, .int x3), (4, .int x_2)]) [1, 2, 3, 4, 0] rfl ?_
    exact hJ27 _ _ _ _ _ hw
  · replace hw := hw.2 c_1
    refine gk_aload_n (pc := 46) C.1 0 dX6_mend_46 rfl rfl ?_
    refine gk_iload (pc := 47) C.1 4 dX6_mend_47 rfl ?_
    refine gk_iload (pc := 49) C.1 5 dX6_mend_49 rfl ?_
    refine tk_callV (pc := 51) (y := yX6_faultsWith) (n := 2) (As := [.int x4, .int x5]) (rest := []) C (wk_faultsWith (ev_l X) hG hw) q2640 q2642 qs129 q2643 ⟨rfl, by decide +kernel⟩ ⟨by decide, by decide⟩ rfl rfl (Nat.le_of_ble_eq_true rfl) dX6_mend_51 (fun v9 u_3 hp => ?_)
    obtain ⟨r_4, rfl, hw⟩ := hp
    refine GK.at (p2 := 54) rfl ?_
    refine gk_istore (pc := 54) (lv' := [(6, Value.int r_4), (0, Value.ref G.2.2.1), (1, Value.int x1), (2, Value.int x2), (3, Value.int x3), (4, Value.int x4), (5, Value.int x5)]) C.1 dX6_mend_54 (by rw [hXn]; decide) rfl ?_
    refine gk_iload (pc := 56) C.1 0 dX6_mend_56 rfl ?_
    refine gk_iload_n (pc := 58) C.1 4 dX6_mend_58 rfl rfl ?_
    refine gk_icmp_lt (pc := 59) (tgt := 65) C.1 dX6_mend_59 (by decide) (fun c_5 => ?_) (fun c_5 => ?_)
    · replace hw := hw.1 c_5
      refine gk_bipush (pc := 65) (v := 100) C.1 dX6_mend_65 (by decide) ?_
      refine gk_aload_n (pc := 67) C.1 1 dX6_mend_67 rfl rfl ?_
      refine tk_getA (pc := 68) C (k := 5) (by decide) (by decide) q2126 rfl dX6_mend_68 ?_
      refine gk_iload (pc := 71) C.1 5 dX6_mend_71 rfl ?_
      obtain ⟨hi, hw⟩ := hw
      refine tk_ald (pc := 73) C (k := 5) (by decide) hi dX6_mend_73 ?_
      refine gk_imul (pc := 74) C.1 dX6_mend_74 ?_
      refine gk_iload (pc := 75) C.1 6 dX6_mend_75 rfl ?_
      refine gk_iadd (pc := 77) C.1 dX6_mend_77 ?_
      obtain ⟨x_6, ex_6⟩ : ∃ z : Int32, z = (100 * (u_3.1 5 x4.toNatClampNeg)) + x5 := ⟨_, rfl⟩
      rw [← ex_6]
      replace hw := hw x_6 ex_6
      refine gk_istore_n (pc := 78) (lv' := [(2, Value.int x_6), (6, Value.int r_4), (0, Value.ref G.2.2.1), (1, Value.int x1), (3, Value.int x3), (4, Value.int x4), (5, Value.int x5)]) C.1 dX6_mend_78 rfl (by rw [hXn]; decide) rfl ?_
      refine gk_iload (pc := 79) C.1 1 dX6_mend_79 rfl ?_
      refine gk_istore_n (pc := 81) (lv' := [(3, Value.int r_4), (2, Value.int x_6), (6, Value.int r_4), (0, Value.ref G.2.2.1), (1, Value.int x1), (4, Value.int x4), (5, Value.int x5)]) C.1 dX6_mend_81 rfl (by rw [hXn]; decide) rfl ?_
      refine GK.sub (lv' := [(0, .ref G.2.2.1), (1, .int x1), (2, .int x_6), (3, .int r_4), (4, .int x4), (5, .int x5)]) [3, 4, 1, 0, 5, 6] rfl ?_
      exact kt_mend_82 C hG hret hXn hJ27 ih _ _ _ _ _ _ hw
    · replace hw := hw.2 c_5
      refine gk_goto (pc := 62) (tgt := 82) C.1 dX6_mend_62 (by decide) ?_
      refine GK.sub (lv' := [(0, .ref G.2.2.1), (1, .int x1), (2, .int x2), (3, .int x3), (4, .int x4), (5, .int x5)]) [1, 2, 3, 4, 5, 6] rfl ?_
      exact kt_mend_82 C hG hret hXn hJ27 ih _ _ _ _ _ _ hw
def wt_mend_27 (k : Int32 → TS → Prop) : Nat → Int32 → Int32 → Int32 → Int32 → TS → Prop
  | 0 => fun _ _ _ _ _ => False
  | n + 1 => fun x1 x2 x3 x4 u => (((u.2 6) ≤ x4 → (((0 ≤ x2 → (((¬ x1 = 0 → (k x3 u)) ∧ (x1 = 0 → (k x2 u))))) ∧ (¬ 0 ≤ x2 → (k (-9) u))))) ∧ (¬ (u.2 6) ≤ x4 → (∃ fu : Nat, wt_mend_39 k (fun yx1 yx2 yx3 yx4 yu => wt_mend_27 k n yx1 yx2 yx3 yx4 yu) fu x1 x2 x3 x4 0 u)))
theorem kt_mend_27 {X : Ev} {G : TG} {k : Int32 → TS → Prop} (C : TC X G cX6_mend 11) (hG : TD G) (hret : (ev_h X).sig.returnType = some .int) (hXn : ev_n X = 7) : ∀ (n : Nat) (x1 : Int32) (x2 : Int32) (x3 : Int32) (x4 : Int32) (u : TS), wt_mend_27 k n x1 x2 x3 x4 u → GK X (TP G u) 0 0 (tQ X G (tI k)) 27 [(0, .ref G.2.2.1), (1, .int x1), (2, .int x2), (3, .int x3), (4, .int x4)] [] := by
  intro n
  induction n with
  | zero => intro x1 x2 x3 x4 u hw; exact hw.elim
  | succ n ih =>
  intro x1 x2 x3 x4 u hw
  unfold wt_mend_27 at hw
  refine gk_iload (pc := 27) C.1 4 dX6_mend_27 rfl ?_
  refine gk_aload_n (pc := 29) C.1 0 dX6_mend_29 rfl rfl ?_
  refine tk_getI (pc := 30) C (k := 6) (by decide) (by decide) q2127 rfl dX6_mend_30 ?_
  refine gk_icmp_ge (pc := 33) (tgt := 94) C.1 dX6_mend_33 (by decide) (fun c_1 => ?_) (fun c_1 => ?_)
  · replace hw := hw.1 c_1
    refine gk_iload_n (pc := 94) C.1 2 dX6_mend_94 rfl rfl ?_
    refine gk_if_ge (pc := 95) (tgt := 103) C.1 dX6_mend_95 (by decide) (fun c_2 => ?_) (fun c_2 => ?_)
    · replace hw := hw.1 c_2
      refine gk_iload_n (pc := 103) C.1 1 dX6_mend_103 rfl rfl ?_
      refine gk_if_ne (pc := 104) (tgt := 111) C.1 dX6_mend_104 (by decide) (fun c_3 => ?_) (fun c_3 => ?_)
      · replace hw := hw.1 c_3
        refine gk_iload_n (pc := 111) C.1 3 dX6_mend_111 rfl rfl ?_
        exact tk_iret (pc := 112) C hret dX6_mend_112 hw
      · replace hw := hw.2 c_3
        refine gk_iload_n (pc := 107) C.1 2 dX6_mend_107 rfl rfl ?_
        refine gk_goto (pc := 108) (tgt := 112) C.1 dX6_mend_108 (by decide) ?_
        exact tk_iret (pc := 112) C hret dX6_mend_112 hw
    · replace hw := hw.2 c_2
      refine gk_bipush (pc := 98) (v := (-9)) C.1 dX6_mend_98 (by decide) ?_
      refine gk_goto (pc := 100) (tgt := 112) C.1 dX6_mend_100 (by decide) ?_
      exact tk_iret (pc := 112) C hret dX6_mend_112 hw
  · replace hw := hw.2 c_1
    refine gk_iconst (pc := 36) (v := 0) C.1 dX6_mend_36 (by decide) ?_
    refine gk_istore (pc := 37) (lv' := [(5, Value.int 0), (0, Value.ref G.2.2.1), (1, Value.int x1), (2, Value.int x2), (3, Value.int x3), (4, Value.int x4)]) C.1 dX6_mend_37 (by rw [hXn]; decide) rfl ?_
    refine GK.sub (lv' := [(0, .ref G.2.2.1), (1, .int x1), (2, .int x2), (3, .int x3), (4, .int x4), (5, .int 0)]) [1, 2, 3, 4, 5, 0] rfl ?_
    obtain ⟨n9, hw⟩ := hw
    exact kt_mend_39 C hG hret hXn ih n9 _ _ _ _ _ _ hw
def wt_mend (k : Int32 → TS → Prop) (x1 : Int32) (u : TS) : Prop := wt_isIn (fun r_2 u_1 => ((¬ r_2 = 0 → (wt_manyNow (fun r_5 u_4 => ∃ fu : Nat, wt_mend_27 k fu x1 (-9) r_5 0 u_4) u_1)) ∧ (r_2 = 0 → (wt_no (fun r_7 u_6 => k r_7 u_6) (-2) u_1)))) x1 0 1 u
theorem wk_mend (l : Launch) {G : TG} (hG : TD G) {k : Int32 → TS → Prop} {x1 : Int32} {u : TS} (hw : wt_mend k x1 u) : TMet l yX6_mend cX6_mend 7 (some .int) 11 G [.ref G.2.2.1, .int x1] u (tI k) := by
  refine tk_met hG rfl (Nat.le_of_ble_eq_true rfl) (fun X hXl hXn hret C => ?_)
  subst hXl
  unfold wt_mend at hw
  refine GK.sub (lv' := [(0, .ref G.2.2.1), (1, .int x1)]) [0, 1] rfl ?_
  refine gk_iload_n (pc := 0) C.1 1 dX6_mend_0 rfl rfl ?_
  refine gk_iconst (pc := 1) (v := 0) C.1 dX6_mend_1 (by decide) ?_
  refine gk_iconst (pc := 2) (v := 1) C.1 dX6_mend_2 (by decide) ?_
  refine tk_callS (pc := 3) (y := yX6_isIn) (n := 3) (As := [.int x1, .int 0, .int 1]) (rest := []) C (wk_isIn (ev_l X) hG hw) q2323 q2324 q2325 ⟨rfl, by decide +kernel⟩ ⟨by decide, by decide⟩ rfl rfl (Nat.le_of_ble_eq_true rfl) dX6_mend_3 (fun v9 u_1 hp => ?_)
  obtain ⟨r_2, rfl, hw⟩ := hp
  refine GK.at (p2 := 6) rfl ?_
  refine gk_if_ne (pc := 6) (tgt := 16) C.1 dX6_mend_6 (by decide) (fun c_3 => ?_) (fun c_3 => ?_)
  · replace hw := hw.1 c_3
    refine gk_bipush (pc := 16) (v := (-9)) C.1 dX6_mend_16 (by decide) ?_
    refine gk_istore_n (pc := 18) (lv' := [(2, Value.int (-9)), (0, Value.ref G.2.2.1), (1, Value.int x1)]) C.1 dX6_mend_18 rfl (by rw [hXn]; decide) rfl ?_
    refine gk_aload_n (pc := 19) C.1 1 dX6_mend_19 rfl rfl ?_
    refine tk_callV (pc := 20) (y := yX6_manyNow) (n := 0) (As := []) (rest := []) C (wk_manyNow (ev_l X) hG hw) q2457 q2459 qs97 q2460 ⟨rfl, by decide +kernel⟩ ⟨by decide, by decide⟩ rfl rfl (Nat.le_of_ble_eq_true rfl) dX6_mend_20 (fun v9 u_4 hp => ?_)
    obtain ⟨r_5, rfl, hw⟩ := hp
    refine GK.at (p2 := 23) rfl ?_
    refine gk_istore_n (pc := 23) (lv' := [(3, Value.int r_5), (2, Value.int (-9)), (0, Value.ref G.2.2.1), (1, Value.int x1)]) C.1 dX6_mend_23 rfl (by rw [hXn]; decide) rfl ?_
    refine gk_iconst (pc := 24) (v := 0) C.1 dX6_mend_24 (by decide) ?_
    refine gk_istore (pc := 25) (lv' := [(4, Value.int 0), (3, Value.int r_5), (2, Value.int (-9)), (0, Value.ref G.2.2.1), (1, Value.int x1)]) C.1 dX6_mend_25 (by rw [hXn]; decide) rfl ?_
    refine GK.sub (lv' := [(0, .ref G.2.2.1), (1, .int x1), (2, .int (-9)), (3, .int r_5), (4, .int 0)]) [3, 4, 2, 1, 0] rfl ?_
    obtain ⟨n9, hw⟩ := hw
    exact kt_mend_27 C hG hret hXn  n9 _ _ _ _ _ hw
  · replace hw := hw.2 c_3
    refine gk_aload_n (pc := 9) C.1 0 dX6_mend_9 rfl rfl ?_
    refine gk_bipush (pc := 10) (v := (-2)) C.1 dX6_mend_10 (by decide) ?_
    refine tk_callV (pc := 12) (y := yX6_no) (n := 1) (As := [.int (-2)]) (rest := []) C (wk_no (ev_l X) hG hw) q2291 q2293 qs66 q2294 ⟨rfl, by decide +kernel⟩ ⟨by decide, by decide⟩ rfl rfl (Nat.le_of_ble_eq_true rfl) dX6_mend_12 (fun v9 u_6 hp => ?_)
    obtain ⟨r_7, rfl, hw⟩ := hp
    refine GK.at (p2 := 15) rfl ?_
    exact tk_iret (pc := 15) C hret dX6_mend_15 hw
/-! often(I)I -/
def wt_often_48 (k : Int32 → TS → Prop) (J20 : Int32 → Int32 → Int32 → TS → Prop) (x1 : Int32) (x3 : Int32) (s0 : Int32) (u : TS) : Prop := ∀ x_1 : Int32, x_1 = x3 + 1 → (J20 x1 s0 x_1 u)
theorem kt_often_48 {X : Ev} {G : TG} {k : Int32 → TS → Prop} {J20 : Int32 → Int32 → Int32 → TS → Prop} (C : TC X G cX6_often 5) (hG : TD G) (hret : (ev_h X).sig.returnType = some .int) (hXn : ev_n X = 4) (hJ20 : ∀ (x1 : Int32) (x2 : Int32) (x3 : Int32) (u : TS), J20 x1 x2 x3 u → GK X (TP G u) 0 0 (tQ X G (tI k)) 20 [(0, .ref G.2.2.1), (1, .int x1), (2, .int x2), (3, .int x3)] []) : ∀ (x1 : Int32) (x3 : Int32) (s0 : Int32) (u : TS), wt_often_48 k J20 x1 x3 s0 u → GK X (TP G u) 0 0 (tQ X G (tI k)) 48 [(0, .ref G.2.2.1), (1, .int x1), (3, .int x3)] [.int s0] := by
  intro x1 x3 s0 u hw
  unfold wt_often_48 at hw
  refine gk_istore_n (pc := 48) (lv' := [(2, Value.int s0), (0, Value.ref G.2.2.1), (1, Value.int x1), (3, Value.int x3)]) C.1 dX6_often_48 rfl (by rw [hXn]; decide) rfl ?_
  obtain ⟨x_1, ex_1⟩ : ∃ z : Int32, z = x3 + 1 := ⟨_, rfl⟩
  replace hw := hw x_1 ex_1
  refine gk_iinc (pc := 49) (v := x_1) (lv' := [(3, Value.int x_1), (2, Value.int s0), (0, Value.ref G.2.2.1), (1, Value.int x1)]) C.1 3 dX6_often_49 rfl (by rw [ex_1]; rfl) (by rw [hXn]; decide) rfl ?_
  refine gk_goto (pc := 52) (tgt := 20) C.1 dX6_often_52 (by decide) ?_
  refine GK.sub (lv' := [(0, .ref G.2.2.1), (1, .int x1), (2, .int s0), (3, .int x_1)]) [2, 3, 1, 0] rfl ?_
  exact hJ20 _ _ _ _ hw
def wt_often_20 (k : Int32 → TS → Prop) : Nat → Int32 → Int32 → Int32 → TS → Prop
  | 0 => fun _ _ _ _ => False
  | n + 1 => fun x1 x2 x3 u => (((u.2 6) ≤ x3 → (((¬ x1 = 0 → (wt_alike (fun r_4 u_3 => k r_4 u_3) x2 0 u)) ∧ (x1 = 0 → (vp_in x2 21 ∧ (k (u.1 5 x2.toNatClampNeg) u)))))) ∧ (¬ (u.2 6) ≤ x3 → (wt_alike (fun r_6 u_5 => wt_alike (fun r_8 u_7 => ((r_6 ≤ r_8 → (wt_often_48 k (fun yx1 yx2 yx3 yu => wt_often_20 k n yx1 yx2 yx3 yu) x1 x3 x2 u_7)) ∧ (¬ r_6 ≤ r_8 → (wt_often_48 k (fun yx1 yx2 yx3 yu => wt_often_20 k n yx1 yx2 yx3 yu) x1 x3 x3 u_7)))) x2 0 u_5) x3 0 u)))
theorem kt_often_20 {X : Ev} {G : TG} {k : Int32 → TS → Prop} (C : TC X G cX6_often 5) (hG : TD G) (hret : (ev_h X).sig.returnType = some .int) (hXn : ev_n X = 4) : ∀ (n : Nat) (x1 : Int32) (x2 : Int32) (x3 : Int32) (u : TS), wt_often_20 k n x1 x2 x3 u → GK X (TP G u) 0 0 (tQ X G (tI k)) 20 [(0, .ref G.2.2.1), (1, .int x1), (2, .int x2), (3, .int x3)] [] := by
  intro n
  induction n with
  | zero => intro x1 x2 x3 u hw; exact hw.elim
  | succ n ih =>
  intro x1 x2 x3 u hw
  unfold wt_often_20 at hw
  refine gk_iload_n (pc := 20) C.1 3 dX6_often_20 rfl rfl ?_
  refine gk_aload_n (pc := 21) C.1 0 dX6_often_21 rfl rfl ?_
  refine tk_getI (pc := 22) C (k := 6) (by decide) (by decide) q2127 rfl dX6_often_22 ?_
  refine gk_icmp_ge (pc := 25) (tgt := 55) C.1 dX6_often_25 (by decide) (fun c_1 => ?_) (fun c_1 => ?_)
  · replace hw := hw.1 c_1
    refine gk_iload_n (pc := 55) C.1 1 dX6_often_55 rfl rfl ?_
    refine gk_if_ne (pc := 56) (tgt := 68) C.1 dX6_often_56 (by decide) (fun c_2 => ?_) (fun c_2 => ?_)
    · replace hw := hw.1 c_2
      refine gk_aload_n (pc := 68) C.1 0 dX6_often_68 rfl rfl ?_
      refine gk_iload_n (pc := 69) C.1 2 dX6_often_69 rfl rfl ?_
      refine gk_iconst (pc := 70) (v := 0) C.1 dX6_often_70 (by decide) ?_
      refine tk_callV (pc := 71) (y := yX6_alike) (n := 2) (As := [.int x2, .int 0]) (rest := []) C (wk_alike (ev_l X) hG hw) q2612 q2614 qs125 q2615 ⟨rfl, by decide +kernel⟩ ⟨by decide, by decide⟩ rfl rfl (Nat.le_of_ble_eq_true rfl) dX6_often_71 (fun v9 u_3 hp => ?_)
      obtain ⟨r_4, rfl, hw⟩ := hp
      refine GK.at (p2 := 74) rfl ?_
      exact tk_iret (pc := 74) C hret dX6_often_74 hw
    · replace hw := hw.2 c_2
      refine gk_aload_n (pc := 59) C.1 0 dX6_often_59 rfl rfl ?_
      refine tk_getA (pc := 60) C (k := 5) (by decide) (by decide) q2126 rfl dX6_often_60 ?_
      refine gk_iload_n (pc := 63) C.1 2 dX6_often_63 rfl rfl ?_
      obtain ⟨hi, hw⟩ := hw
      refine tk_ald (pc := 64) C (k := 5) (by decide) hi dX6_often_64 ?_
      refine gk_goto (pc := 65) (tgt := 74) C.1 dX6_often_65 (by decide) ?_
      exact tk_iret (pc := 74) C hret dX6_often_74 hw
  · replace hw := hw.2 c_1
    refine gk_aload_n (pc := 28) C.1 0 dX6_often_28 rfl rfl ?_
    refine gk_iload_n (pc := 29) C.1 3 dX6_often_29 rfl rfl ?_
    refine gk_iconst (pc := 30) (v := 0) C.1 dX6_often_30 (by decide) ?_
    refine tk_callV (pc := 31) (y := yX6_alike) (n := 2) (As := [.int x3, .int 0]) (rest := []) C (wk_alike (ev_l X) hG hw) q2612 q2614 qs125 q2615 ⟨rfl, by decide +kernel⟩ ⟨by decide, by decide⟩ rfl rfl (Nat.le_of_ble_eq_true rfl) dX6_often_31 (fun v9 u_5 hp => ?_)
    obtain ⟨r_6, rfl, hw⟩ := hp
    refine GK.at (p2 := 34) rfl ?_
    refine gk_aload_n (pc := 34) C.1 0 dX6_often_34 rfl rfl ?_
    refine gk_iload_n (pc := 35) C.1 2 dX6_often_35 rfl rfl ?_
    refine gk_iconst (pc := 36) (v := 0) C.1 dX6_often_36 (by decide) ?_
    refine tk_callV (pc := 37) (y := yX6_alike) (n := 2) (As := [.int x2, .int 0]) (rest := [.int r_6]) C (wk_alike (ev_l X) hG hw) q2612 q2614 qs125 q2615 ⟨rfl, by decide +kernel⟩ ⟨by decide, by decide⟩ rfl rfl (Nat.le_of_ble_eq_true rfl) dX6_often_37 (fun v9 u_7 hp => ?_)
    obtain ⟨r_8, rfl, hw⟩ := hp
    refine GK.at (p2 := 40) rfl ?_
    refine gk_icmp_le (pc := 40) (tgt := 47) C.1 dX6_often_40 (by decide) (fun c_9 => ?_) (fun c_9 => ?_)
    · replace hw := hw.1 c_9
      refine gk_iload_n (pc := 47) C.1 2 dX6_often_47 rfl rfl ?_
      refine GK.sub (lv' := [(0, .ref G.2.2.1), (1, .int x1), (3, .int x3)]) [0, 1, 3] rfl ?_
      exact kt_often_48 C hG hret hXn ih _ _ _ _ hw
    · replace hw := hw.2 c_9
      refine gk_iload_n (pc := 43) C.1 3 dX6_often_43 rfl rfl ?_
      refine gk_goto (pc := 44) (tgt := 48) C.1 dX6_often_44 (by decide) ?_
      refine GK.sub (lv' := [(0, .ref G.2.2.1), (1, .int x1), (3, .int x3)]) [0, 1, 3] rfl ?_
      exact kt_often_48 C hG hret hXn ih _ _ _ _ hw
def wt_often (k : Int32 → TS → Prop) (x1 : Int32) (u : TS) : Prop := wt_isIn (fun r_2 u_1 => ((¬ r_2 = 0 → (∃ fu : Nat, wt_often_20 k fu x1 0 1 u_1)) ∧ (r_2 = 0 → (wt_no (fun r_5 u_4 => k r_5 u_4) (-2) u_1)))) x1 0 1 u
theorem wk_often (l : Launch) {G : TG} (hG : TD G) {k : Int32 → TS → Prop} {x1 : Int32} {u : TS} (hw : wt_often k x1 u) : TMet l yX6_often cX6_often 4 (some .int) 5 G [.ref G.2.2.1, .int x1] u (tI k) := by
  refine tk_met hG rfl (Nat.le_of_ble_eq_true rfl) (fun X hXl hXn hret C => ?_)
  subst hXl
  unfold wt_often at hw
  refine GK.sub (lv' := [(0, .ref G.2.2.1), (1, .int x1)]) [0, 1] rfl ?_
  refine gk_iload_n (pc := 0) C.1 1 dX6_often_0 rfl rfl ?_
  refine gk_iconst (pc := 1) (v := 0) C.1 dX6_often_1 (by decide) ?_
  refine gk_iconst (pc := 2) (v := 1) C.1 dX6_often_2 (by decide) ?_
  refine tk_callS (pc := 3) (y := yX6_isIn) (n := 3) (As := [.int x1, .int 0, .int 1]) (rest := []) C (wk_isIn (ev_l X) hG hw) q2323 q2324 q2325 ⟨rfl, by decide +kernel⟩ ⟨by decide, by decide⟩ rfl rfl (Nat.le_of_ble_eq_true rfl) dX6_often_3 (fun v9 u_1 hp => ?_)
  obtain ⟨r_2, rfl, hw⟩ := hp
  refine GK.at (p2 := 6) rfl ?_
  refine gk_if_ne (pc := 6) (tgt := 16) C.1 dX6_often_6 (by decide) (fun c_3 => ?_) (fun c_3 => ?_)
  · replace hw := hw.1 c_3
    refine gk_iconst (pc := 16) (v := 0) C.1 dX6_often_16 (by decide) ?_
    refine gk_istore_n (pc := 17) (lv' := [(2, Value.int 0), (0, Value.ref G.2.2.1), (1, Value.int x1)]) C.1 dX6_often_17 rfl (by rw [hXn]; decide) rfl ?_
    refine gk_iconst (pc := 18) (v := 1) C.1 dX6_often_18 (by decide) ?_
    refine gk_istore_n (pc := 19) (lv' := [(3, Value.int 1), (2, Value.int 0), (0, Value.ref G.2.2.1), (1, Value.int x1)]) C.1 dX6_often_19 rfl (by rw [hXn]; decide) rfl ?_
    refine GK.sub (lv' := [(0, .ref G.2.2.1), (1, .int x1), (2, .int 0), (3, .int 1)]) [2, 3, 1, 0] rfl ?_
    obtain ⟨n9, hw⟩ := hw
    exact kt_often_20 C hG hret hXn  n9 _ _ _ _ hw
  · replace hw := hw.2 c_3
    refine gk_aload_n (pc := 9) C.1 0 dX6_often_9 rfl rfl ?_
    refine gk_bipush (pc := 10) (v := (-2)) C.1 dX6_often_10 (by decide) ?_
    refine tk_callV (pc := 12) (y := yX6_no) (n := 1) (As := [.int (-2)]) (rest := []) C (wk_no (ev_l X) hG hw) q2291 q2293 qs66 q2294 ⟨rfl, by decide +kernel⟩ ⟨by decide, by decide⟩ rfl rfl (Nat.le_of_ble_eq_true rfl) dX6_often_12 (fun v9 u_4 hp => ?_)
    obtain ⟨r_5, rfl, hw⟩ := hp
    refine GK.at (p2 := 15) rfl ?_
    exact tk_iret (pc := 15) C hret dX6_often_15 hw
