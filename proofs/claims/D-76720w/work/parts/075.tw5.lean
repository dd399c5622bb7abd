set_option maxRecDepth 100000
/-! closes(I)Z -/
def wt_closes (k : Int32 → TS → Prop) (x1 : Int32) (u : TS) : Prop := wt_reads (fun r_2 u_1 => ((¬ r_2 = 0 → (∀ u_4 : TS, u_4 = tpI u_1 45 ((u_1.2 45) - 1) → (vp_in (u_4.2 45) 100 ∧ (vp_in (u_4.2 45) 100 ∧ (vp_in (u_4.1 37 (u_4.2 45).toNatClampNeg) 21 ∧ (∀ u_5 : TS, u_5 = tpA u_4 2 (u_4.1 37 (u_4.2 45).toNatClampNeg).toNatClampNeg (u_4.1 40 (u_4.2 45).toNatClampNeg) → (k 1 u_5))))))) ∧ (r_2 = 0 → (k 0 u_1)))) x1 u
theorem wk_closes (l : Launch) {G : TG} (hG : TD G) {k : Int32 → TS → Prop} {x1 : Int32} {u : TS} (hw : wt_closes k x1 u) : TMet l yX6_closes cX6_closes 2 (some .boolean) 3 G [.ref G.2.2.1, .int x1] u (tI k) := by
  refine tk_met hG rfl (Nat.le_of_ble_eq_true rfl) (fun X hXl hXn hret C => ?_)
  subst hXl
  unfold wt_closes at hw
  refine GK.sub (lv' := [(0, .ref G.2.2.1), (1, .int x1)]) [0, 1] rfl ?_
  refine gk_aload_n (pc := 0) C.1 0 dX6_closes_0 rfl rfl ?_
  refine gk_iload_n (pc := 1) C.1 1 dX6_closes_1 rfl rfl ?_
  refine tk_callV (pc := 2) (y := yX6_reads) (n := 1) (As := [.int x1]) (rest := []) C (wk_reads (ev_l X) hG hw) q2354 q2356 qs80 q2357 ⟨rfl, by decide +kernel⟩ ⟨by decide, by decide⟩ rfl rfl (Nat.le_of_ble_eq_true rfl) dX6_closes_2 (fun v9 u_1 hp => ?_)
  obtain ⟨r_2, rfl, hw⟩ := hp
  refine GK.at (p2 := 5) rfl ?_
  refine gk_if_ne (pc := 5) (tgt := 10) C.1 dX6_closes_5 (by decide) (fun c_3 => ?_) (fun c_3 => ?_)
  · replace hw := hw.1 c_3
    refine gk_aload_n (pc := 10) C.1 0 dX6_closes_10 rfl rfl ?_
    refine gk_dup (pc := 11) C.1 dX6_closes_11 rfl ?_
    refine tk_getI (pc := 12) C (k := 45) (by decide) (by decide) q2166 rfl dX6_closes_12 ?_
    refine gk_iconst (pc := 15) (v := 1) C.1 dX6_closes_15 (by decide) ?_
    refine gk_isub (pc := 16) C.1 dX6_closes_16 ?_
    refine tk_putI (pc := 17) C (k := 45) (by decide) (by decide) q2166 rfl rfl (ty := .int) rfl rfl rfl dX6_closes_17 (fun u_4 eu_4 => ?_)
    replace hw := hw u_4 eu_4
    refine gk_aload_n (pc := 20) C.1 0 dX6_closes_20 rfl rfl ?_
    refine tk_getA (pc := 21) C (k := 2) (by decide) (by decide) q2123 rfl dX6_closes_21 ?_
    refine gk_aload_n (pc := 24) C.1 0 dX6_closes_24 rfl rfl ?_
    refine tk_getA (pc := 25) C (k := 37) (by decide) (by decide) q2158 rfl dX6_closes_25 ?_
    refine gk_aload_n (pc := 28) C.1 0 dX6_closes_28 rfl rfl ?_
    refine tk_getI (pc := 29) C (k := 45) (by decide) (by decide) q2166 rfl dX6_closes_29 ?_
    obtain ⟨hi, hw⟩ := hw
    refine tk_ald (pc := 32) C (k := 37) (by decide) hi dX6_closes_32 ?_
    refine gk_aload_n (pc := 33) C.1 0 dX6_closes_33 rfl rfl ?_
    refine tk_getA (pc := 34) C (k := 40) (by decide) (by decide) q2161 rfl dX6_closes_34 ?_
    refine gk_aload_n (pc := 37) C.1 0 dX6_closes_37 rfl rfl ?_
    refine tk_getI (pc := 38) C (k := 45) (by decide) (by decide) q2166 rfl dX6_closes_38 ?_
    obtain ⟨hi, hw⟩ := hw
    refine tk_ald (pc := 41) C (k := 40) (by decide) hi dX6_closes_41 ?_
    obtain ⟨hi, hw⟩ := hw
    refine tk_ast (pc := 42) C (k := 2) (by decide) hi dX6_closes_42 (fun u_5 eu_5 => ?_)
    replace hw := hw u_5 eu_5
    refine gk_iconst (pc := 43) (v := 1) C.1 dX6_closes_43 (by decide) ?_
    exact tk_zret (pc := 44) C hret dX6_closes_44 bz1 hw
  · replace hw := hw.2 c_3
    refine gk_iconst (pc := 8) (v := 0) C.1 dX6_closes_8 (by decide) ?_
    exact tk_zret (pc := 9) C hret dX6_closes_9 bz0 hw
/-! coded(I)I -/
def wt_coded_46 (k : Int32 → TS → Prop) (J26 : Int32 → Int32 → Int32 → TS → Prop) (x1 : Int32) (x3 : Int32) (s0 : Int32) (s1 : Int32) (u : TS) : Prop := ∀ x_1 : Int32, x_1 = s0 + s1 → (∀ x_2 : Int32, x_2 = x3 + (-1) → (J26 x1 x_1 x_2 u))
theorem kt_coded_46 {X : Ev} {G : TG} {k : Int32 → TS → Prop} {J26 : Int32 → Int32 → Int32 → TS → Prop} (C : TC X G cX6_coded 10) (hG : TD G) (hret : (ev_h X).sig.returnType = some .int) (hXn : ev_n X = 4) (hJ26 : ∀ (x1 : Int32) (x2 : Int32) (x3 : Int32) (u : TS), J26 x1 x2 x3 u → GK X (TP G u) 0 0 (tQ X G (tI k)) 26 [(0, .ref G.2.2.1), (1, .int x1), (2, .int x2), (3, .int x3)] []) : ∀ (x1 : Int32) (x3 : Int32) (s0 : Int32) (s1 : Int32) (u : TS), wt_coded_46 k J26 x1 x3 s0 s1 u → GK X (TP G u) 0 0 (tQ X G (tI k)) 46 [(0, .ref G.2.2.1), (1, .int x1), (3, .int x3)] [.int s1, .int s0] := by
  intro x1 x3 s0 s1 u hw
  unfold wt_coded_46 at hw
  refine gk_iadd (pc := 46) C.1 dX6_coded_46 ?_
  obtain ⟨x_1, ex_1⟩ : ∃ z : Int32, z = s0 + s1 := ⟨_, rfl⟩
  rw [← ex_1]
  replace hw := hw x_1 ex_1
  refine gk_istore_n (pc := 47) (lv' := [(2, Value.int x_1), (0, Value.ref G.2.2.1), (1, Value.int x1), (3, Value.int x3)]) C.1 dX6_coded_47 rfl (by rw [hXn]; decide) rfl ?_
  obtain ⟨x_2, ex_2⟩ : ∃ z : Int32, z = x3 + (-1) := ⟨_, rfl⟩
  replace hw := hw x_2 ex_2
  refine gk_iinc (pc := 48) (v := x_2) (lv' := [(3, Value.int x_2), (2, Value.int x_1), (0, Value.ref G.2.2.1), (1, Value.int x1)]) C.1 3 dX6_coded_48 rfl (by rw [ex_2]; rfl) (by rw [hXn]; decide) rfl ?_
  refine gk_goto (pc := 51) (tgt := 26) C.1 dX6_coded_51 (by decide) ?_
  refine GK.sub (lv' := [(0, .ref G.2.2.1), (1, .int x1), (2, .int x_1), (3, .int x_2)]) [2, 3, 1, 0] rfl ?_
  exact hJ26 _ _ _ _ hw
def wt_coded_26 (k : Int32 → TS → Prop) : Nat → Int32 → Int32 → Int32 → TS → Prop
  | 0 => fun _ _ _ _ => False
  | n + 1 => fun x1 x2 x3 u => ((x3 < 0 → (k x2 u)) ∧ (¬ x3 < 0 → (vp_in x3 16384 ∧ (((¬ (u.1 25 x3.toNatClampNeg) = x1 → (wt_coded_46 k (fun yx1 yx2 yx3 yu => wt_coded_26 k n yx1 yx2 yx3 yu) x1 x3 x2 0 u)) ∧ ((u.1 25 x3.toNatClampNeg) = x1 → (wt_coded_46 k (fun yx1 yx2 yx3 yu => wt_coded_26 k n yx1 yx2 yx3 yu) x1 x3 x2 1 u)))))))
theorem kt_coded_26 {X : Ev} {G : TG} {k : Int32 → TS → Prop} (C : TC X G cX6_coded 10) (hG : TD G) (hret : (ev_h X).sig.returnType = some .int) (hXn : ev_n X = 4) : ∀ (n : Nat) (x1 : Int32) (x2 : Int32) (x3 : Int32) (u : TS), wt_coded_26 k n x1 x2 x3 u → GK X (TP G u) 0 0 (tQ X G (tI k)) 26 [(0, .ref G.2.2.1), (1, .int x1), (2, .int x2), (3, .int x3)] [] := by
  intro n
  induction n with
  | zero => intro x1 x2 x3 u hw; exact hw.elim
  | succ n ih =>
  intro x1 x2 x3 u hw
  unfold wt_coded_26 at hw
  refine gk_iload_n (pc := 26) C.1 3 dX6_coded_26 rfl rfl ?_
  refine gk_if_lt (pc := 27) (tgt := 54) C.1 dX6_coded_27 (by decide) (fun c_1 => ?_) (fun c_1 => ?_)
  · replace hw := hw.1 c_1
    refine gk_iload_n (pc := 54) C.1 2 dX6_coded_54 rfl rfl ?_
    exact tk_iret (pc := 55) C hret dX6_coded_55 hw
  · replace hw := hw.2 c_1
    refine gk_iload_n (pc := 30) C.1 2 dX6_coded_30 rfl rfl ?_
    refine gk_aload_n (pc := 31) C.1 0 dX6_coded_31 rfl rfl ?_
    refine tk_getA (pc := 32) C (k := 25) (by decide) (by decide) q2146 rfl dX6_coded_32 ?_
    refine gk_iload_n (pc := 35) C.1 3 dX6_coded_35 rfl rfl ?_
    obtain ⟨hi, hw⟩ := hw
    refine tk_ald (pc := 36) C (k := 25) (by decide) hi dX6_coded_36 ?_
    refine gk_iload_n (pc := 37) C.1 1 dX6_coded_37 rfl rfl ?_
    refine gk_icmp_ne (pc := 38) (tgt := 45) C.1 dX6_coded_38 (by decide) (fun c_2 => ?_) (fun c_2 => ?_)
    · replace hw := hw.1 c_2
      refine gk_iconst (pc := 45) (v := 0) C.1 dX6_coded_45 (by decide) ?_
      refine GK.sub (lv' := [(0, .ref G.2.2.1), (1, .int x1), (3, .int x3)]) [0, 1, 3] rfl ?_
      exact kt_coded_46 C hG hret hXn ih _ _ _ _ _ hw
    · replace hw := hw.2 c_2
      refine gk_iconst (pc := 41) (v := 1) C.1 dX6_coded_41 (by decide) ?_
      refine gk_goto (pc := 42) (tgt := 46) C.1 dX6_coded_42 (by decide) ?_
      refine GK.sub (lv' := [(0, .ref G.2.2.1), (1, .int x1), (3, .int x3)]) [0, 1, 3] rfl ?_
      exact kt_coded_46 C hG hret hXn ih _ _ _ _ _ hw
def wt_coded (k : Int32 → TS → Prop) (x1 : Int32) (u : TS) : Prop := wt_isIn (fun r_2 u_1 => ((¬ r_2 = 0 → (wt_manyNow (fun r_5 u_4 => ∀ x_6 : Int32, x_6 = r_5 - 1 → (∃ fu : Nat, wt_coded_26 k fu x1 0 x_6 u_4)) u_1)) ∧ (r_2 = 0 → (wt_no (fun r_8 u_7 => k r_8 u_7) (-2) u_1)))) x1 1 12 u
theorem wk_coded (l : Launch) {G : TG} (hG : TD G) {k : Int32 → TS → Prop} {x1 : Int32} {u : TS} (hw : wt_coded k x1 u) : TMet l yX6_coded cX6_coded 4 (some .int) 10 G [.ref G.2.2.1, .int x1] u (tI k) := by
  refine tk_met hG rfl (Nat.le_of_ble_eq_true rfl) (fun X hXl hXn hret C => ?_)
  subst hXl
  unfold wt_coded at hw
  refine GK.sub (lv' := [(0, .ref G.2.2.1), (1, .int x1)]) [0, 1] rfl ?_
  refine gk_iload_n (pc := 0) C.1 1 dX6_coded_0 rfl rfl ?_
  refine gk_iconst (pc := 1) (v := 1) C.1 dX6_coded_1 (by decide) ?_
  refine gk_bipush (pc := 2) (v := 12) C.1 dX6_coded_2 (by decide) ?_
  refine tk_callS (pc := 4) (y := yX6_isIn) (n := 3) (As := [.int x1, .int 1, .int 12]) (rest := []) C (wk_isIn (ev_l X) hG hw) q2323 q2324 q2325 ⟨rfl, by decide +kernel⟩ ⟨by decide, by decide⟩ rfl rfl (Nat.le_of_ble_eq_true rfl) dX6_coded_4 (fun v9 u_1 hp => ?_)
  obtain ⟨r_2, rfl, hw⟩ := hp
  refine GK.at (p2 := 7) rfl ?_
  refine gk_if_ne (pc := 7) (tgt := 17) C.1 dX6_coded_7 (by decide) (fun c_3 => ?_) (fun c_3 => ?_)
  · replace hw := hw.1 c_3
    refine gk_iconst (pc := 17) (v := 0) C.1 dX6_coded_17 (by decide) ?_
    refine gk_istore_n (pc := 18) (lv' := [(2, Value.int 0), (0, Value.ref G.2.2.1), (1, Value.int x1)]) C.1 dX6_coded_18 rfl (by rw [hXn]; decide) rfl ?_
    refine gk_aload_n (pc := 19) C.1 1 dX6_coded_19 rfl rfl ?_
    refine tk_callV (pc := 20) (y := yX6_manyNow) (n := 0) (As := []) (rest := []) C (wk_manyNow (ev_l X) hG hw) q2457 q2459 qs97 q2460 ⟨rfl, by decide +kernel⟩ ⟨by decide, by decide⟩ rfl rfl (Nat.le_of_ble_eq_true rfl) dX6_coded_20 (fun v9 u_4 hp => ?_)
    obtain ⟨r_5, rfl, hw⟩ := hp
    refine GK.at (p2 := 23) rfl ?_
    refine gk_iconst (pc := 23) (v := 1) C.1 dX6_coded_23 (by decide) ?_
    refine gk_isub (pc := 24) C.1 dX6_coded_24 ?_
    obtain ⟨x_6, ex_6⟩ : ∃ z : Int32, z = r_5 - 1 := ⟨_, rfl⟩
    rw [← ex_6]
    replace hw := hw x_6 ex_6
    refine gk_istore_n (pc := 25) (lv' := [(3, Value.int x_6), (2, Value.int 0), (0, Value.ref G.2.2.1), (1, Value.int x1)]) C.1 dX6_coded_25 rfl (by rw [hXn]; decide) rfl ?_
    refine GK.sub (lv' := [(0, .ref G.2.2.1), (1, .int x1), (2, .int 0), (3, .int x_6)]) [2, 3, 1, 0] rfl ?_
    obtain ⟨n9, hw⟩ := hw
    exact kt_coded_26 C hG hret hXn  n9 _ _ _ _ hw
  · replace hw := hw.2 c_3
    refine gk_aload_n (pc := 10) C.1 0 dX6_coded_10 rfl rfl ?_
    refine gk_bipush (pc := 11) (v := (-2)) C.1 dX6_coded_11 (by decide) ?_
    refine tk_callV (pc := 13) (y := yX6_no) (n := 1) (As := [.int (-2)]) (rest := []) C (wk_no (ev_l X) hG hw) q2291 q2293 qs66 q2294 ⟨rfl, by decide +kernel⟩ ⟨by decide, by decide⟩ rfl rfl (Nat.le_of_ble_eq_true rfl) dX6_coded_13 (fun v9 u_7 hp => ?_)
    obtain ⟨r_8, rfl, hw⟩ := hp
    refine GK.at (p2 := 16) rfl ?_
    exact tk_iret (pc := 16) C hret dX6_coded_16 hw
/-! greatestPath()I -/
def wt_greatestPath_32 (k : Int32 → TS → Prop) (J4 : Int32 → Int32 → TS → Prop) (x2 : Int32) (s0 : Int32) (u : TS) : Prop := ∀ x_1 : Int32, x_1 = x2 + 1 → (J4 s0 x_1 u)
theorem kt_greatestPath_32 {X : Ev} {G : TG} {k : Int32 → TS → Prop} {J4 : Int32 → Int32 → TS → Prop} (C : TC X G cX6_greatestPath 1) (hG : TD G) (hret : (ev_h X).sig.returnType = some .int) (hXn : ev_n X = 3) (hJ4 : ∀ (x1 : Int32) (x2 : Int32) (u : TS), J4 x1 x2 u → GK X (TP G u) 0 0 (tQ X G (tI k)) 4 [(0, .ref G.2.2.1), (1, .int x1), (2, .int x2)] []) : ∀ (x2 : Int32) (s0 : Int32) (u : TS), wt_greatestPath_32 k J4 x2 s0 u → GK X (TP G u) 0 0 (tQ X G (tI k)) 32 [(0, .ref G.2.2.1), (2, .int x2)] [.int s0] := by
  intro x2 s0 u hw
  unfold wt_greatestPath_32 at hw
  refine gk_istore_n (pc := 32) (lv' := [(1, Value.int s0), (0, Value.ref G.2.2.1), (2, Value.int x2)]) C.1 dX6_greatestPath_32 rfl (by rw [hXn]; decide) rfl ?_
  obtain ⟨x_1, ex_1⟩ : ∃ z : Int32, z = x2 + 1 := ⟨_, rfl⟩
  replace hw := hw x_1 ex_1
  refine gk_iinc (pc := 33) (v := x_1) (lv' := [(2, Value.int x_1), (1, Value.int s0), (0, Value.ref G.2.2.1)]) C.1 2 dX6_greatestPath_33 rfl (by rw [ex_1]; rfl) (by rw [hXn]; decide) rfl ?_
  refine gk_goto (pc := 36) (tgt := 4) C.1 dX6_greatestPath_36 (by decide) ?_
  refine GK.sub (lv' := [(0, .ref G.2.2.1), (1, .int s0), (2, .int x_1)]) [2, 1, 0] rfl ?_
  exact hJ4 _ _ _ hw
def wt_greatestPath_4 (k : Int32 → TS → Prop) : Nat → Int32 → Int32 → TS → Prop
  | 0 => fun _ _ _ => False
  | n + 1 => fun x1 x2 u => (((u.2 6) ≤ x2 → (k x1 u)) ∧ (¬ (u.2 6) ≤ x2 → (vp_in x2 21 ∧ ((((u.1 5 x2.toNatClampNeg) ≤ x1 → (wt_greatestPath_32 k (fun yx1 yx2 yu => wt_greatestPath_4 k n yx1 yx2 yu) x2 x1 u)) ∧ (¬ (u.1 5 x2.toNatClampNeg) ≤ x1 → (vp_in x2 21 ∧ (wt_greatestPath_32 k (fun yx1 yx2 yu => wt_greatestPath_4 k n yx1 yx2 yu) x2 (u.1 5 x2.toNatClampNeg) u))))))))
theorem kt_greatestPath_4 {X : Ev} {G : TG} {k : Int32 → TS → Prop} (C : TC X G cX6_greatestPath 1) (hG : TD G) (hret : (ev_h X).sig.returnType = some .int) (hXn : ev_n X = 3) : ∀ (n : Nat) (x1 : Int32) (x2 : Int32) (u : TS), wt_greatestPath_4 k n x1 x2 u → GK X (TP G u) 0 0 (tQ X G (tI k)) 4 [(0, .ref G.2.2.1), (1, .int x1), (2, .int x2)] [] := by
  intro n
  induction n with
  | zero => intro x1 x2 u hw; exact hw.elim
  | succ n ih =>
  intro x1 x2 u hw
  unfold wt_greatestPath_4 at hw
  refine gk_iload_n (pc := 4) C.1 2 dX6_greatestPath_4 rfl rfl ?_
  refine gk_aload_n (pc := 5) C.1 0 dX6_greatestPath_5 rfl rfl ?_
  refine tk_getI (pc := 6) C (k := 6) (by decide) (by decide) q2127 rfl dX6_greatestPath_6 ?_
  refine gk_icmp_ge (pc := 9) (tgt := 39) C.1 dX6_greatestPath_9 (by decide) (fun c_1 => ?_) (fun c_1 => ?_)
  · replace hw := hw.1 c_1
    refine gk_iload_n (pc := 39) C.1 1 dX6_greatestPath_39 rfl rfl ?_
    exact tk_iret (pc := 40) C hret dX6_greatestPath_40 hw
  · replace hw := hw.2 c_1
    refine gk_aload_n (pc := 12) C.1 0 dX6_greatestPath_12 rfl rfl ?_
    refine tk_getA (pc := 13) C (k := 5) (by decide) (by decide) q2126 rfl dX6_greatestPath_13 ?_
    refine gk_iload_n (pc := 16) C.1 2 dX6_greatestPath_16 rfl rfl ?_
    obtain ⟨hi, hw⟩ := hw
    refine tk_ald (pc := 17) C (k := 5) (by decide) hi dX6_greatestPath_17 ?_
    refine gk_iload_n (pc := 18) C.1 1 dX6_greatestPath_18 rfl rfl ?_
    refine gk_icmp_le (pc := 19) (tgt := 31) C.1 dX6_greatestPath_19 (by decide) (fun c_2 => ?_) (fun c_2 => ?_)
    · replace hw := hw.1 c_2
      refine gk_iload_n (pc := 31) C.1 1 dX6_greatestPath_31 rfl rfl ?_
      refine GK.sub (lv' := [(0, .ref G.2.2.1), (2, .int x2)]) [0, 2] rfl ?_
      exact kt_greatestPath_32 C hG hret hXn ih _ _ _ hw
    · replace hw := hw.2 c_2
      refine gk_aload_n (pc := 22) C.1 0 dX6_greatestPath_22 rfl rfl ?_
      refine tk_getA (pc := 23) C (k := 5) (by decide) (by decide) q2126 rfl dX6_greatestPath_23 ?_
      refine gk_iload_n (pc := 26) C.1 2 dX6_greatestPath_26 rfl rfl ?_
      obtain ⟨hi, hw⟩ := hw
      refine tk_ald (pc := 27) C (k := 5) (by decide) hi dX6_greatestPath_27 ?_
      refine gk_goto (pc := 28) (tgt := 32) C.1 dX6_greatestPath_28 (by decide) ?_
      refine GK.sub (lv' := [(0, .ref G.2.2.1), (2, .int x2)]) [0, 2] rfl ?_
      exact kt_greatestPath_32 C hG hret hXn ih _ _ _ hw
def wt_greatestPath (k : Int32 → TS → Prop) (u : TS) : Prop := ∃ fu : Nat, wt_greatestPath_4 k fu 0 0 u
theorem wk_greatestPath (l : Launch) {G : TG} (hG : TD G) {k : Int32 → TS → Prop} {u : TS} (hw : wt_greatestPath k  u) : TMet l yX6_greatestPath cX6_greatestPath 3 (some .int) 1 G [.ref G.2.2.1] u (tI k) := by
  refine tk_met hG rfl (Nat.le_of_ble_eq_true rfl) (fun X hXl hXn hret C => ?_)
  subst hXl
  unfold wt_greatestPath at hw
  refine GK.sub (lv' := [(0, .ref G.2.2.1)]) [0] rfl ?_
  refine gk_iconst (pc := 0) (v := 0) C.1 dX6_greatestPath_0 (by decide) ?_
  refine gk_istore_n (pc := 1) (lv' := [(1, Value.int 0), (0, Value.ref G.2.2.1)]) C.1 dX6_greatestPath_1 rfl (by rw [hXn]; decide) rfl ?_
  refine gk_iconst (pc := 2) (v := 0) C.1 dX6_greatestPath_2 (by decide) ?_
  refine gk_istore_n (pc := 3) (lv' := [(2, Value.int 0), (1, Value.int 0), (0, Value.ref G.2.2.1)]) C.1 dX6_greatestPath_3 rfl (by rw [hXn]; decide) rfl ?_
  refine GK.sub (lv' := [(0, .ref G.2.2.1), (1, .int 0), (2, .int 0)]) [2, 1, 0] rfl ?_
  obtain ⟨n9, hw⟩ := hw
  exact kt_greatestPath_4 C hG hret hXn  n9 _ _ _ hw
/-! numbersUpTo(I)I -/
def wt_numbersUpTo_27 (k : Int32 → TS → Prop) (J4 : Int32 → Int32 → Int32 → TS → Prop) (x1 : Int32) (x3 : Int32) (s0 : Int32) (s1 : Int32) (u : TS) : Prop := ∀ x_1 : Int32, x_1 = s0 + s1 → (∀ x_2 : Int32, x_2 = x3 + 1 → (J4 x1 x_1 x_2 u))
theorem kt_numbersUpTo_27 {X : Ev} {G : TG} {k : Int32 → TS → Prop} {J4 : Int32 → Int32 → Int32 → TS → Prop} (C : TC X G cX6_numbersUpTo 1) (hG : TD G) (hret : (ev_h X).sig.returnType = some .int) (hXn : ev_n X = 4) (hJ4 : ∀ (x1 : Int32) (x2 : Int32) (x3 : Int32) (u : TS), J4 x1 x2 x3 u → GK X (TP G u) 0 0 (tQ X G (tI k)) 4 [(0, .ref G.2.2.1), (1, .int x1), (2, .int x2), (3, .int x3)] []) : ∀ (x1 : Int32) (x3 : Int32) (s0 : Int32) (s1 : Int32) (u : TS), wt_numbersUpTo_27 k J4 x1 x3 s0 s1 u → GK X (TP G u) 0 0 (tQ X G (tI k)) 27 [(0, .ref G.2.2.1), (1, .int x1), (3, .int x3)] [.int s1, .int s0] := by
  intro x1 x3 s0 s1 u hw
  unfold wt_numbersUpTo_27 at hw
  refine gk_iadd (pc := 27) C.1 dX6_numbersUpTo_27 ?_
  obtain ⟨x_1, ex_1⟩ : ∃ z : Int32, z = s0 + s1 := ⟨_, rfl⟩
  rw [← ex_1]
  replace hw := hw x_1 ex_1
  refine gk_istore_n (pc := 28) (lv' := [(2, Value.int x_1), (0, Value.ref G.2.2.1), (1, Value.int x1), (3, Value.int x3)]) C.1 dX6_numbersUpTo_28 rfl (by rw [hXn]; decide) rfl ?_
  obtain ⟨x_2, ex_2⟩ : ∃ z : Int32, z = x3 + 1 := ⟨_, rfl⟩
  replace hw := hw x_2 ex_2
  refine gk_iinc (pc := 29) (v := x_2) (lv' := [(3, Value.int x_2), (2, Value.int x_1), (0, Value.ref G.2.2.1), (1, Value.int x1)]) C.1 3 dX6_numbersUpTo_29 rfl (by rw [ex_2]; rfl) (by rw [hXn]; decide) rfl ?_
  refine gk_goto (pc := 32) (tgt := 4) C.1 dX6_numbersUpTo_32 (by decide) ?_
  refine GK.sub (lv' := [(0, .ref G.2.2.1), (1, .int x1), (2, .int x_1), (3, .int x_2)]) [2, 3, 1, 0] rfl ?_
  exact hJ4 _ _ _ _ hw
def wt_numbersUpTo_4 (k : Int32 → TS → Prop) : Nat → Int32 → Int32 → Int32 → TS → Prop
  | 0 => fun _ _ _ _ => False
  | n + 1 => fun x1 x2 x3 u => (((u.2 6) ≤ x3 → (((x1 ≤ x2 → (k x1 u)) ∧ (¬ x1 ≤ x2 → (k x2 u))))) ∧ (¬ (u.2 6) ≤ x3 → (vp_in x3 21 ∧ (((¬ (u.1 1 x3.toNatClampNeg) = 0 → (wt_numbersUpTo_27 k (fun yx1 yx2 yx3 yu => wt_numbersUpTo_4 k n yx1 yx2 yx3 yu) x1 x3 x2 0 u)) ∧ ((u.1 1 x3.toNatClampNeg) = 0 → (wt_numbersUpTo_27 k (fun yx1 yx2 yx3 yu => wt_numbersUpTo_4 k n yx1 yx2 yx3 yu) x1 x3 x2 1 u)))))))
theorem kt_numbersUpTo_4 {X : Ev} {G : TG} {k : Int32 → TS → Prop} (C : TC X G cX6_numbersUpTo 1) (hG : TD G) (hret : (ev_h X).sig.returnType = some .int) (hXn : ev_n X = 4) : ∀ (n : Nat) (x1 : Int32) (x2 : Int32) (x3 : Int32) (u : TS), wt_numbersUpTo_4 k n x1 x2 x3 u → GK X (TP G u) 0 0 (tQ X G (tI k)) 4 [(0, .ref G.2.2.1), (1, .int x1), (2, .int x2), (3, .int x3)] [] := by
  intro n
  induction n with
  | zero => intro x1 x2 x3 u hw; exact hw.elim
  | succ n ih =>
  intro x1 x2 x3 u hw
  unfold wt_numbersUpTo_4 at hw
  refine gk_iload_n (pc := 4) C.1 3 dX6_numbersUpTo_4 rfl rfl ?_
  refine gk_aload_n (pc := 5) C.1 0 dX6_numbersUpTo_5 rfl rfl ?_
  refine tk_getI (pc := 6) C (k := 6) (by decide) (by decide) q2127 rfl dX6_numbersUpTo_6 ?_
  refine gk_icmp_ge (pc := 9) (tgt := 35) C.1 dX6_numbersUpTo_9 (by decide) (fun c_1 => ?_) (fun c_1 => ?_)
  · replace hw := hw.1 c_1
    refine gk_iload_n (pc := 35) C.1 2 dX6_numbersUpTo_35 rfl rfl ?_
    refine gk_iload_n (pc := 36) C.1 1 dX6_numbersUpTo_36 rfl rfl ?_
    refine gk_icmp_ge (pc := 37) (tgt := 44) C.1 dX6_numbersUpTo_37 (by decide) (fun c_2 => ?_) (fun c_2 => ?_)
    · replace hw := hw.1 c_2
      refine gk_iload_n (pc := 44) C.1 1 dX6_numbersUpTo_44 rfl rfl ?_
      exact tk_iret (pc := 45) C hret dX6_numbersUpTo_45 hw
    · replace hw := hw.2 c_2
      refine gk_iload_n (pc := 40) C.1 2 dX6_numbersUpTo_40 rfl rfl ?_
      refine gk_goto (pc := 41) (tgt := 45) C.1 dX6_numbersUpTo_41 (by decide) ?_
      exact tk_iret (pc := 45) C hret dX6_numbersUpTo_45 hw
  · replace hw := hw.2 c_1
    refine gk_iload_n (pc := 12) C.1 2 dX6_numbersUpTo_12 rfl rfl ?_
    refine gk_aload_n (pc := 13) C.1 0 dX6_numbersUpTo_13 rfl rfl ?_
    refine tk_getA (pc := 14) C (k := 1) (by decide) (by decide) q2122 rfl dX6_numbersUpTo_14 ?_
    refine gk_iload_n (pc := 17) C.1 3 dX6_numbersUpTo_17 rfl rfl ?_
    obtain ⟨hi, hw⟩ := hw
    refine tk_ald (pc := 18) C (k := 1) (by decide) hi dX6_numbersUpTo_18 ?_
    refine gk_if_ne (pc := 19) (tgt := 26) C.1 dX6_numbersUpTo_19 (by decide) (fun c_3 => ?_) (fun c_3 => ?_)
    · replace hw := hw.1 c_3
      refine gk_iconst (pc := 26) (v := 0) C.1 dX6_numbersUpTo_26 (by decide) ?_
      refine GK.sub (lv' := [(0, .ref G.2.2.1), (1, .int x1), (3, .int x3)]) [0, 1, 3] rfl ?_
      exact kt_numbersUpTo_27 C hG hret hXn ih _ _ _ _ _ hw
    · replace hw := hw.2 c_3
      refine gk_iconst (pc := 22) (v := 1) C.1 dX6_numbersUpTo_22 (by decide) ?_
      refine gk_goto (pc := 23) (tgt := 27) C.1 dX6_numbersUpTo_23 (by decide) ?_
      refine GK.sub (lv' := [(0, .ref G.2.2.1), (1, .int x1), (3, .int x3)]) [0, 1, 3] rfl ?_
      exact kt_numbersUpTo_27 C hG hret hXn ih _ _ _ _ _ hw
def wt_numbersUpTo (k : Int32 → TS → Prop) (x1 : Int32) (u : TS) : Prop := ∃ fu : Nat, wt_numbersUpTo_4 k fu x1 0 0 u
theorem wk_numbersUpTo (l : Launch) {G : TG} (hG : TD G) {k : Int32 → TS → Prop} {x1 : Int32} {u : TS} (hw : wt_numbersUpTo k x1 u) : TMet l yX6_numbersUpTo cX6_numbersUpTo 4 (some .int) 1 G [.ref G.2.2.1, .int x1] u (tI k) := by
  refine tk_met hG rfl (Nat.le_of_ble_eq_true rfl) (fun X hXl hXn hret C => ?_)
  subst hXl
  unfold wt_numbersUpTo at hw
  refine GK.sub (lv' := [(0, .ref G.2.2.1), (1, .int x1)]) [0, 1] rfl ?_
  refine gk_iconst (pc := 0) (v := 0) C.1 dX6_numbersUpTo_0 (by decide) ?_
  refine gk_istore_n (pc := 1) (lv' := [(2, Value.int 0), (0, Value.ref G.2.2.1), (1, Value.int x1)]) C.1 dX6_numbersUpTo_1 rfl (by rw [hXn]; decide) rfl ?_
  refine gk_iconst (pc := 2) (v := 0) C.1 dX6_numbersUpTo_2 (by decide) ?_
  refine gk_istore_n (pc := 3) (lv' := [(3, Value.int 0), (2, Value.int 0), (0, Value.ref G.2.2.1), (1, Value.int x1)]) C.1 dX6_numbersUpTo_3 rfl (by rw [hXn]; decide) rfl ?_
  refine GK.sub (lv' := [(0, .ref G.2.2.1), (1, .int x1), (2, .int 0), (3, .int 0)]) [2, 3, 1, 0] rfl ?_
  obtain ⟨n9, hw⟩ := hw
  exact kt_numbersUpTo_4 C hG hret hXn  n9 _ _ _ _ hw
/-! waits()I -/
def wt_waits (k : Int32 → TS → Prop) (u : TS) : Prop := wt_findFaults (fun u_1 => k (u_1.2 34) u_1) u
theorem wk_waits (l : Launch) {G : TG} (hG : TD G) {k : Int32 → TS → Prop} {u : TS} (hw : wt_waits k  u) : TMet l yX6_waits cX6_waits 1 (some .int) 9 G [.ref G.2.2.1] u (tI k) := by
  refine tk_met hG rfl (Nat.le_of_ble_eq_true rfl) (fun X hXl hXn hret C => ?_)
  subst hXl
  unfold wt_waits at hw
  refine GK.sub (lv' := [(0, .ref G.2.2.1)]) [0] rfl ?_
  refine gk_aload_n (pc := 0) C.1 0 dX6_waits_0 rfl rfl ?_
  refine tk_callV (pc := 1) (y := yX6_findFaults) (n := 0) (As := []) (rest := []) C (wk_findFaults (ev_l X) hG hw) q2461 q2463 qs98 q2464 ⟨rfl, by decide +kernel⟩ ⟨by decide, by decide⟩ rfl rfl (Nat.le_of_ble_eq_true rfl) dX6_waits_1 (fun v9 u_1 hp => ?_)
  obtain ⟨rfl, hw⟩ := hp
  refine GK.at (p2 := 4) rfl ?_
  refine gk_aload_n (pc := 4) C.1 0 dX6_waits_4 rfl rfl ?_
  refine tk_getI (pc := 5) C (k := 34) (by decide) (by decide) q2155 rfl dX6_waits_5 ?_
  exact tk_iret (pc := 8) C hret dX6_waits_8 hw
/-! count(I)I -/
def wt_count (k : Int32 → TS → Prop) (x1 : Int32) (u : TS) : Prop := wt_isIn (fun r_2 u_1 => ((r_2 = 0 → (((x1 = 0 → (k (u_1.2 6) u_1)) ∧ (¬ x1 = 0 → ((x1 = 1 → (k (u_1.2 20) u_1)) ∧ (¬ x1 = 1 → ((x1 = 2 → (wt_manyNow (fun r_8 u_7 => k r_8 u_7) u_1)) ∧ (¬ x1 = 2 → ((x1 = 3 → (wt_numbersUpTo (fun r_11 u_10 => k r_11 u_10) 20 u_1)) ∧ (¬ x1 = 3 → ((x1 = 4 → (wt_greatestPath (fun r_14 u_13 => k r_14 u_13) u_1)) ∧ (¬ x1 = 4 → ((x1 = 5 → (wt_waits (fun r_17 u_16 => k r_17 u_16) u_1)) ∧ (¬ x1 = 5 → ((x1 = 6 → (k (u_1.2 52) u_1)) ∧ (¬ x1 = 6 → ((x1 = 7 → (k (u_1.2 42) u_1)) ∧ (¬ x1 = 7 → (k (-9) u_1))))))))))))))))))) ∧ (¬ r_2 = 0 → (vp_in (x1 - 10) 7 ∧ (k (u_1.1 0 (x1 - 10).toNatClampNeg) u_1))))) x1 11 16 u
theorem wk_count (l : Launch) {G : TG} (hG : TD G) {k : Int32 → TS → Prop} {x1 : Int32} {u : TS} (hw : wt_count k x1 u) : TMet l yX6_count cX6_count 2 (some .int) 10 G [.ref G.2.2.1, .int x1] u (tI k) := by
  refine tk_met hG rfl (Nat.le_of_ble_eq_true rfl) (fun X hXl hXn hret C => ?_)
  subst hXl
  unfold wt_count at hw
  refine GK.sub (lv' := [(0, .ref G.2.2.1), (1, .int x1)]) [0, 1] rfl ?_
  refine gk_iload_n (pc := 0) C.1 1 dX6_count_0 rfl rfl ?_
  refine gk_bipush (pc := 1) (v := 11) C.1 dX6_count_1 (by decide) ?_
  refine gk_bipush (pc := 3) (v := 16) C.1 dX6_count_3 (by decide) ?_
  refine tk_callS (pc := 5) (y := yX6_isIn) (n := 3) (As := [.int x1, .int 11, .int 16]) (rest := []) C (wk_isIn (ev_l X) hG hw) q2323 q2324 q2325 ⟨rfl, by decide +kernel⟩ ⟨by decide, by decide⟩ rfl rfl (Nat.le_of_ble_eq_true rfl) dX6_count_5 (fun v9 u_1 hp => ?_)
  obtain ⟨r_2, rfl, hw⟩ := hp
  refine GK.at (p2 := 8) rfl ?_
  refine gk_if_eq (pc := 8) (tgt := 21) C.1 dX6_count_8 (by decide) (fun c_3 => ?_) (fun c_3 => ?_)
  · replace hw := hw.1 c_3
    refine gk_iload_n (pc := 21) C.1 1 dX6_count_21 rfl rfl ?_
    by_cases c_4 : x1 = 0
    · replace hw := hw.1 c_4
      refine gk_tableIn (pc := 22) (off := 46) (tgt := 68) C.1 dX6_count_22 (by rw [c_4]; decide) (by rw [c_4]; decide) (by rw [c_4]; decide) (by decide) ?_
      refine gk_aload_n (pc := 68) C.1 0 dX6_count_68 rfl rfl ?_
      refine tk_getI (pc := 69) C (k := 6) (by decide) (by decide) q2127 rfl dX6_count_69 ?_
      exact tk_iret (pc := 72) C hret dX6_count_72 hw
    · replace hw := hw.2 c_4
      by_cases c_5 : x1 = 1
      · replace hw := hw.1 c_5
        refine gk_tableIn (pc := 22) (off := 51) (tgt := 73) C.1 dX6_count_22 (by rw [c_5]; decide) (by rw [c_5]; decide) (by rw [c_5]; decide) (by decide) ?_
        refine gk_aload_n (pc := 73) C.1 0 dX6_count_73 rfl rfl ?_
        refine tk_getI (pc := 74) C (k := 20) (by decide) (by decide) q2141 rfl dX6_count_74 ?_
        exact tk_iret (pc := 77) C hret dX6_count_77 hw
      · replace hw := hw.2 c_5
        by_cases c_6 : x1 = 2
        · replace hw := hw.1 c_6
          refine gk_tableIn (pc := 22) (off := 56) (tgt := 78) C.1 dX6_count_22 (by rw [c_6]; decide) (by rw [c_6]; decide) (by rw [c_6]; decide) (by decide) ?_
          refine gk_aload_n (pc := 78) C.1 0 dX6_count_78 rfl rfl ?_
          refine tk_callV (pc := 79) (y := yX6_manyNow) (n := 0) (As := []) (rest := []) C (wk_manyNow (ev_l X) hG hw) q2457 q2459 qs97 q2460 ⟨rfl, by decide +kernel⟩ ⟨by decide, by decide⟩ rfl rfl (Nat.le_of_ble_eq_true rfl) dX6_count_79 (fun v9 u_7 hp => ?_)
          obtain ⟨r_8, rfl, hw⟩ := hp
          refine GK.at (p2 := 82) rfl ?_
          exact tk_iret (pc := 82) C hret dX6_count_82 hw
        · replace hw := hw.2 c_6
          by_cases c_9 : x1 = 3
          · replace hw := hw.1 c_9
            refine gk_tableIn (pc := 22) (off := 61) (tgt := 83) C.1 dX6_count_22 (by rw [c_9]; decide) (by rw [c_9]; decide) (by rw [c_9]; decide) (by decide) ?_
            refine gk_aload_n (pc := 83) C.1 0 dX6_count_83 rfl rfl ?_
            refine gk_bipush (pc := 84) (v := 20) C.1 dX6_count_84 (by decide) ?_
            refine tk_callV (pc := 86) (y := yX6_numbersUpTo) (n := 1) (As := [.int 20]) (rest := []) C (wk_numbersUpTo (ev_l X) hG hw) q2657 q2659 qs131 q2660 ⟨rfl, by decide +kernel⟩ ⟨by decide, by decide⟩ rfl rfl (Nat.le_of_ble_eq_true rfl) dX6_count_86 (fun v9 u_10 hp => ?_)
            obtain ⟨r_11, rfl, hw⟩ := hp
            refine GK.at (p2 := 89) rfl ?_
            exact tk_iret (pc := 89) C hret dX6_count_89 hw
          · replace hw := hw.2 c_9
            by_cases c_12 : x1 = 4
            · replace hw := hw.1 c_12
              refine gk_tableIn (pc := 22) (off := 68) (tgt := 90) C.1 dX6_count_22 (by rw [c_12]; decide) (by rw [c_12]; decide) (by rw [c_12]; decide) (by decide) ?_
              refine gk_aload_n (pc := 90) C.1 0 dX6_count_90 rfl rfl ?_
              refine tk_callV (pc := 91) (y := yX6_greatestPath) (n := 0) (As := []) (rest := []) C (wk_greatestPath (ev_l X) hG hw) q2714 q2716 qs136 q2717 ⟨rfl, by decide +kernel⟩ ⟨by decide, by decide⟩ rfl rfl (Nat.le_of_ble_eq_true rfl) dX6_count_91 (fun v9 u_13 hp => ?_)
              obtain ⟨r_14, rfl, hw⟩ := hp
              refine GK.at (p2 := 94) rfl ?_
              exact tk_iret (pc := 94) C hret dX6_count_94 hw
            · replace hw := hw.2 c_12
              by_cases c_15 : x1 = 5
              · replace hw := hw.1 c_15
                refine gk_tableIn (pc := 22) (off := 73) (tgt := 95) C.1 dX6_count_22 (by rw [c_15]; decide) (by rw [c_15]; decide) (by rw [c_15]; decide) (by decide) ?_
                refine gk_aload_n (pc := 95) C.1 0 dX6_count_95 rfl rfl ?_
                refine tk_callV (pc := 96) (y := yX6_waits) (n := 0) (As := []) (rest := []) C (wk_waits (ev_l X) hG hw) q2718 q2581 q2582 q2583 ⟨rfl, by decide +kernel⟩ ⟨by decide, by decide⟩ rfl rfl (Nat.le_of_ble_eq_true rfl) dX6_count_96 (fun v9 u_16 hp => ?_)
                obtain ⟨r_17, rfl, hw⟩ := hp
                refine GK.at (p2 := 99) rfl ?_
                exact tk_iret (pc := 99) C hret dX6_count_99 hw
              · replace hw := hw.2 c_15
                by_cases c_18 : x1 = 6
                · replace hw := hw.1 c_18
                  refine gk_tableIn (pc := 22) (off := 78) (tgt := 100) C.1 dX6_count_22 (by rw [c_18]; decide) (by rw [c_18]; decide) (by rw [c_18]; decide) (by decide) ?_
                  refine gk_aload_n (pc := 100) C.1 0 dX6_count_100 rfl rfl ?_
                  refine tk_getI (pc := 101) C (k := 52) (by decide) (by decide) q2173 rfl dX6_count_101 ?_
                  exact tk_iret (pc := 104) C hret dX6_count_104 hw
                · replace hw := hw.2 c_18
                  by_cases c_19 : x1 = 7
                  · replace hw := hw.1 c_19
                    refine gk_tableIn (pc := 22) (off := 83) (tgt := 105) C.1 dX6_count_22 (by rw [c_19]; decide) (by rw [c_19]; decide) (by rw [c_19]; decide) (by decide) ?_
                    refine gk_aload_n (pc := 105) C.1 0 dX6_count_105 rfl rfl ?_
                    refine tk_getI (pc := 106) C (k := 42) (by decide) (by decide) q2163 rfl dX6_count_106 ?_
                    exact tk_iret (pc := 109) C hret dX6_count_109 hw
                  · replace hw := hw.2 c_19
                    refine gk_tableOut (pc := 22) (tgt := 110) C.1 dX6_count_22 (by have z0 := lv_neT c_4 (a := 0) (by decide); have z1 := lv_neT c_5 (a := 1) (by decide); have z2 := lv_neT c_6 (a := 2) (by decide); have z3 := lv_neT c_9 (a := 3) (by decide); have z4 := lv_neT c_12 (a := 4) (by decide); have z5 := lv_neT c_15 (a := 5) (by decide); have z6 := lv_neT c_18 (a := 6) (by decide); have z7 := lv_neT c_19 (a := 7) (by decide); omega) (by decide) ?_
                    refine gk_bipush (pc := 110) (v := (-9)) C.1 dX6_count_110 (by decide) ?_
                    exact tk_iret (pc := 112) C hret dX6_count_112 hw
  · replace hw := hw.2 c_3
    refine gk_aload_n (pc := 11) C.1 0 dX6_count_11 rfl rfl ?_
    refine tk_getA (pc := 12) C (k := 0) (by decide) (by decide) q2121 rfl dX6_count_12 ?_
    refine gk_iload_n (pc := 15) C.1 1 dX6_count_15 rfl rfl ?_
    refine gk_bipush (pc := 16) (v := 10) C.1 dX6_count_16 (by decide) ?_
    refine gk_isub (pc := 18) C.1 dX6_count_18 ?_
    obtain ⟨hi, hw⟩ := hw
    refine tk_ald (pc := 19) C (k := 0) (by decide) hi dX6_count_19 ?_
    exact tk_iret (pc := 20) C hret dX6_count_20 hw
/-! different()I -/
def wt_different_29 (k : Int32 → TS → Prop) (J4 : Int32 → Int32 → TS → Prop) (x2 : Int32) (s0 : Int32) (s1 : Int32) (u : TS) : Prop := ∀ x_1 : Int32, x_1 = s0 + s1 → (∀ x_2 : Int32, x_2 = x2 + 1 → (J4 x_1 x_2 u))
theorem kt_different_29 {X : Ev} {G : TG} {k : Int32 → TS → Prop} {J4 : Int32 → Int32 → TS → Prop} (C : TC X G cX6_different 5) (hG : TD G) (hret : (ev_h X).sig.returnType = some .int) (hXn : ev_n X = 3) (hJ4 : ∀ (x1 : Int32) (x2 : Int32) (u : TS), J4 x1 x2 u → GK X (TP G u) 0 0 (tQ X G (tI k)) 4 [(0, .ref G.2.2.1), (1, .int x1), (2, .int x2)] []) : ∀ (x2 : Int32) (s0 : Int32) (s1 : Int32) (u : TS), wt_different_29 k J4 x2 s0 s1 u → GK X (TP G u) 0 0 (tQ X G (tI k)) 29 [(0, .ref G.2.2.1), (2, .int x2)] [.int s1, .int s0] := by
  intro x2 s0 s1 u hw
  unfold wt_different_29 at hw
  refine gk_iadd (pc := 29) C.1 dX6_different_29 ?_
  obtain ⟨x_1, ex_1⟩ : ∃ z : Int32, z = s0 + s1 := ⟨_, rfl⟩
  rw [← ex_1]
  replace hw := hw x_1 ex_1
  refine gk_istore_n (pc := 30) (lv' := [(1, Value.int x_1), (0, Value.ref G.2.2.1), (2, Value.int x2)]) C.1 dX6_different_30 rfl (by rw [hXn]; decide) rfl ?_
  obtain ⟨x_2, ex_2⟩ : ∃ z : Int32, z = x2 + 1 := ⟨_, rfl⟩
  replace hw := hw x_2 ex_2
  refine gk_iinc (pc := 31) (v := x_2) (lv' := [(2, Value.int x_2), (1, Value.int x_1), (0, Value.ref G.2.2.1)]) C.1 2 dX6_different_31 rfl (by rw [ex_2]; rfl) (by rw [hXn]; decide) rfl ?_
  refine gk_goto (pc := 34) (tgt := 4) C.1 dX6_different_34 (by decide) ?_
  refine GK.sub (lv' := [(0, .ref G.2.2.1), (1, .int x_1), (2, .int x_2)]) [2, 1, 0] rfl ?_
  exact hJ4 _ _ _ hw
def wt_different_4 (k : Int32 → TS → Prop) : Nat → Int32 → Int32 → TS → Prop
  | 0 => fun _ _ _ => False
  | n + 1 => fun x1 x2 u => (((u.2 6) ≤ x2 → (k x1 u)) ∧ (¬ (u.2 6) ≤ x2 → (wt_alike (fun r_3 u_2 => ((¬ r_3 = 0 → (wt_different_29 k (fun yx1 yx2 yu => wt_different_4 k n yx1 yx2 yu) x2 x1 0 u_2)) ∧ (r_3 = 0 → (wt_different_29 k (fun yx1 yx2 yu => wt_different_4 k n yx1 yx2 yu) x2 x1 1 u_2)))) x2 (x2 + 1) u)))
theorem kt_different_4 {X : Ev} {G : TG} {k : Int32 → TS → Prop} (C : TC X G cX6_different 5) (hG : TD G) (hret : (ev_h X).sig.returnType = some .int) (hXn : ev_n X = 3) : ∀ (n : Nat) (x1 : Int32) (x2 : Int32) (u : TS), wt_different_4 k n x1 x2 u → GK X (TP G u) 0 0 (tQ X G (tI k)) 4 [(0, .ref G.2.2.1), (1, .int x1), (2, .int x2)] [] := by
  intro n
  induction n with
  | zero => intro x1 x2 u hw; exact hw.elim
  | succ n ih =>
  intro x1 x2 u hw
  unfold wt_different_4 at hw
  refine gk_iload_n (pc := 4) C.1 2 dX6_different_4 rfl rfl ?_
  refine gk_aload_n (pc := 5) C.1 0 dX6_different_5 rfl rfl ?_
  refine tk_getI (pc := 6) C (k := 6) (by decide) (by decide) q2127 rfl dX6_different_6 ?_
  refine gk_icmp_ge (pc := 9) (tgt := 37) C.1 dX6_different_9 (by decide) (fun c_1 => ?_) (fun c_1 => ?_)
  · replace hw := hw.1 c_1
    refine gk_iload_n (pc := 37) C.1 1 dX6_different_37 rfl rfl ?_
    exact tk_iret (pc := 38) C hret dX6_different_38 hw
  · replace hw := hw.2 c_1
    refine gk_iload_n (pc := 12) C.1 1 dX6_different_12 rfl rfl ?_
    refine gk_aload_n (pc := 13) C.1 0 dX6_different_13 rfl rfl ?_
    refine gk_iload_n (pc := 14) C.1 2 dX6_different_14 rfl rfl ?_
    refine gk_iload_n (pc := 15) C.1 2 dX6_different_15 rfl rfl ?_
    refine gk_iconst (pc := 16) (v := 1) C.1 dX6_different_16 (by decide) ?_
    refine gk_iadd (pc := 17) C.1 dX6_different_17 ?_
    refine tk_callV (pc := 18) (y := yX6_alike) (n := 2) (As := [.int x2, .int (x2 + 1)]) (rest := [.int x1]) C (wk_alike (ev_l X) hG hw) q2612 q2614 qs125 q2615 ⟨rfl, by decide +kernel⟩ ⟨by decide, by decide⟩ rfl rfl (Nat.le_of_ble_eq_true rfl) dX6_different_18 (fun v9 u_2 hp => ?_)
    obtain ⟨r_3, rfl, hw⟩ := hp
    refine GK.at (p2 := 21) rfl ?_
    refine gk_if_ne (pc := 21) (tgt := 28) C.1 dX6_different_21 (by decide) (fun c_4 => ?_) (fun c_4 => ?_)
    · replace hw := hw.1 c_4
      refine gk_iconst (pc := 28) (v := 0) C.1 dX6_different_28 (by decide) ?_
      refine GK.sub (lv' := [(0, .ref G.2.2.1), (2, .int x2)]) [0, 2] rfl ?_
      exact kt_different_29 C hG hret hXn ih _ _ _ _ hw
    · replace hw := hw.2 c_4
      refine gk_iconst (pc := 24) (v := 1) C.1 dX6_different_24 (by decide) ?_
      refine gk_goto (pc := 25) (tgt := 29) C.1 dX6_different_25 (by decide) ?_
      refine GK.sub (lv' := [(0, .ref G.2.2.1), (2, .int x2)]) [0, 2] rfl ?_
      exact kt_different_29 C hG hret hXn ih _ _ _ _ hw
def wt_different (k : Int32 → TS → Prop) (u : TS) : Prop := ∃ fu : Nat, wt_different_4 k fu 0 0 u
theorem wk_different (l : Launch) {G : TG} (hG : TD G) {k : Int32 → TS → Prop} {u : TS} (hw : wt_different k  u) : TMet l yX6_different cX6_different 3 (some .int) 5 G [.ref G.2.2.1] u (tI k) := by
  refine tk_met hG rfl (Nat.le_of_ble_eq_true rfl) (fun X hXl hXn hret C => ?_)
  subst hXl
  unfold wt_different at hw
  refine GK.sub (lv' := [(0, .ref G.2.2.1)]) [0] rfl ?_
  refine gk_iconst (pc := 0) (v := 0) C.1 dX6_different_0 (by decide) ?_
  refine gk_istore_n (pc := 1) (lv' := [(1, Value.int 0), (0, Value.ref G.2.2.1)]) C.1 dX6_different_1 rfl (by rw [hXn]; decide) rfl ?_
  refine gk_iconst (pc := 2) (v := 0) C.1 dX6_different_2 (by decide) ?_
  refine gk_istore_n (pc := 3) (lv' := [(2, Value.int 0), (1, Value.int 0), (0, Value.ref G.2.2.1)]) C.1 dX6_different_3 rfl (by rw [hXn]; decide) rfl ?_
  refine GK.sub (lv' := [(0, .ref G.2.2.1), (1, .int 0), (2, .int 0)]) [2, 1, 0] rfl ?_
  obtain ⟨n9, hw⟩ := hw
  exact kt_different_4 C hG hret hXn  n9 _ _ _ hw
/-! divisor(JJ)J -/
def wt_divisor_6 (k : Int64 → TS → Prop) : Nat → Int64 → Int64 → TS → Prop
  | 0 => fun _ _ _ => False
  | n + 1 => fun x4 x6 u => (((lg_cmp x6 0) = 0 → (k x4 u)) ∧ (¬ (lg_cmp x6 0) = 0 → (¬ x6 = 0 ∧ (∀ x_2 : Int64, x_2 = x4 - x4 / x6 * x6 → (wt_divisor_6 k n x6 x_2 u)))))
theorem kt_divisor_6 {X : Ev} {G : TG} {k : Int64 → TS → Prop} (C : TC X G cX6_divisor 1) (hG : TD G) (hret : (ev_h X).sig.returnType = some .long) (hXn : ev_n X = 10) : ∀ (n : Nat) (x4 : Int64) (x6 : Int64) (u : TS), wt_divisor_6 k n x4 x6 u → GK X (TP G u) 0 0 (tQ X G (tL k)) 6 [(4, .long x4), (6, .long x6)] [] := by
  intro n
  induction n with
  | zero => intro x4 x6 u hw; exact hw.elim
  | succ n ih =>
  intro x4 x6 u hw
  unfold wt_divisor_6 at hw
  refine gk_lload (pc := 6) C.1 1 dX6_divisor_6 rfl ?_
  refine gk_lconst (pc := 8) (v := 0) C.1 dX6_divisor_8 (by decide) ?_
  refine gk_lcmp (pc := 9) C.1 dX6_divisor_9 ?_
  refine gk_if_eq (pc := 10) (tgt := 31) C.1 dX6_divisor_10 (by decide) (fun c_1 => ?_) (fun c_1 => ?_)
  · replace hw := hw.1 c_1
    refine gk_lload (pc := 31) C.1 0 dX6_divisor_31 rfl ?_
    exact tk_lret (pc := 33) C hret dX6_divisor_33 hw
  · replace hw := hw.2 c_1
    refine gk_lload (pc := 13) C.1 0 dX6_divisor_13 rfl ?_
    refine gk_lload (pc := 15) C.1 1 dX6_divisor_15 rfl ?_
    obtain ⟨hne, hw⟩ := hw
    refine gk_lrem (pc := 17) C.1 dX6_divisor_17 hne ?_
    obtain ⟨x_2, ex_2⟩ : ∃ z : Int64, z = x4 - x4 / x6 * x6 := ⟨_, rfl⟩
    rw [← ex_2]
    replace hw := hw x_2 ex_2
    refine gk_lstore (pc := 18) (lv' := [(8, Value.long x_2), (4, Value.long x4), (6, Value.long x6)]) C.1 dX6_divisor_18 (by rw [hXn]; decide) rfl ?_
    refine gk_lload (pc := 20) C.1 2 dX6_divisor_20 rfl ?_
    refine gk_lstore (pc := 22) (lv' := [(4, Value.long x6), (8, Value.long x_2), (6, Value.long x6)]) C.1 dX6_divisor_22 (by rw [hXn]; decide) rfl ?_
    refine gk_lload (pc := 24) C.1 1 dX6_divisor_24 rfl ?_
    refine gk_lstore (pc := 26) (lv' := [(6, Value.long x_2), (4, Value.long x6), (8, Value.long x_2)]) C.1 dX6_divisor_26 (by rw [hXn]; decide) rfl ?_
    refine gk_goto (pc := 28) (tgt := 6) C.1 dX6_divisor_28 (by decide) ?_
    refine GK.sub (lv' := [(4, .long x6), (6, .long x_2)]) [1, 0] rfl ?_
    exact ih _ _ _ hw
def wt_divisor (k : Int64 → TS → Prop) (x0 : Int64) (x2 : Int64) (u : TS) : Prop := ∃ fu : Nat, wt_divisor_6 k fu x0 x2 u
theorem wk_divisor (l : Launch) {G : TG} (hG : TD G) {k : Int64 → TS → Prop} {x0 : Int64} {x2 : Int64} {u : TS} (hw : wt_divisor k x0 x2 u) : TMet l yX6_divisor cX6_divisor 10 (some .long) 1 G [.long x0, .long x2] u (tL k) := by
  refine tk_met hG rfl (Nat.le_of_ble_eq_true rfl) (fun X hXl hXn hret C => ?_)
  subst hXl
  unfold wt_divisor at hw
  refine GK.sub (lv' := [(0, .long x0), (2, .long x2)]) [0, 1] rfl ?_
  refine gk_lload_n (pc := 0) C.1 0 dX6_divisor_0 rfl rfl ?_
  refine gk_lstore (pc := 1) (lv' := [(4, Value.long x0), (0, Value.long x0), (2, Value.long x2)]) C.1 dX6_divisor_1 (by rw [hXn]; decide) rfl ?_
  refine gk_lload_n (pc := 3) C.1 2 dX6_divisor_3 rfl rfl ?_
  refine gk_lstore (pc := 4) (lv' := [(6, Value.long x2), (4, Value.long x0), (0, Value.long x0), (2, Value.long x2)]) C.1 dX6_divisor_4 (by rw [hXn]; decide) rfl ?_
  refine GK.sub (lv' := [(4, .long x0), (6, .long x2)]) [1, 0] rfl ?_
  obtain ⟨n9, hw⟩ := hw
  exact kt_divisor_6 C hG hret hXn  n9 _ _ _ hw
/-! partAt(I)I -/
def wt_partAt_2 (k : Int32 → TS → Prop) : Nat → Int32 → Int32 → TS → Prop
  | 0 => fun _ _ _ => False
  | n + 1 => fun x1 x2 u => (((u.2 6) ≤ x2 → (k (-9) u)) ∧ (¬ (u.2 6) ≤ x2 → (vp_in x2 21 ∧ (((¬ (u.1 5 x2.toNatClampNeg) = x1 → (∀ x_3 : Int32, x_3 = x2 + 1 → (wt_partAt_2 k n x1 x_3 u))) ∧ ((u.1 5 x2.toNatClampNeg) = x1 → (k x2 u)))))))
theorem kt_partAt_2 {X : Ev} {G : TG} {k : Int32 → TS → Prop} (C : TC X G cX6_partAt 1) (hG : TD G) (hret : (ev_h X).sig.returnType = some .int) (hXn : ev_n X = 3) : ∀ (n : Nat) (x1 : Int32) (x2 : Int32) (u : TS), wt_partAt_2 k n x1 x2 u → GK X (TP G u) 0 0 (tQ X G (tI k)) 2 [(0, .ref G.2.2.1), (1, .int x1), (2, .int x2)] [] := by
  intro n
  induction n with
  | zero => intro x1 x2 u hw; exact hw.elim
  | succ n ih =>
  intro x1 x2 u hw
  unfold wt_partAt_2 at hw
  refine gk_iload_n (pc := 2) C.1 2 dX6_partAt_2 rfl rfl ?_
  refine gk_aload_n (pc := 3) C.1 0 dX6_partAt_3 rfl rfl ?_
  refine tk_getI (pc := 4) C (k := 6) (by decide) (by decide) q2127 rfl dX6_partAt_4 ?_
  refine gk_icmp_ge (pc := 7) (tgt := 28) C.1 dX6_partAt_7 (by decide) (fun c_1 => ?_) (fun c_1 => ?_)
  · replace hw := hw.1 c_1
    refine gk_bipush (pc := 28) (v := (-9)) C.1 dX6_partAt_28 (by decide) ?_
    exact tk_iret (pc := 30) C hret dX6_partAt_30 hw
  · replace hw := hw.2 c_1
    refine gk_aload_n (pc := 10) C.1 0 dX6_partAt_10 rfl rfl ?_
    refine tk_getA (pc := 11) C (k := 5) (by decide) (by decide) q2126 rfl dX6_partAt_11 ?_
    refine gk_iload_n (pc := 14) C.1 2 dX6_partAt_14 rfl rfl ?_
    obtain ⟨hi, hw⟩ := hw
    refine tk_ald (pc := 15) C (k := 5) (by decide) hi dX6_partAt_15 ?_
    refine gk_iload_n (pc := 16) C.1 1 dX6_partAt_16 rfl rfl ?_
    refine gk_icmp_ne (pc := 17) (tgt := 22) C.1 dX6_partAt_17 (by decide) (fun c_2 => ?_) (fun c_2 => ?_)
    · replace hw := hw.1 c_2
      obtain ⟨x_3, ex_3⟩ : ∃ z : Int32, z = x2 + 1 := ⟨_, rfl⟩
      replace hw := hw x_3 ex_3
      refine gk_iinc (pc := 22) (v := x_3) (lv' := [(2, Value.int x_3), (0, Value.ref G.2.2.1), (1, Value.int x1)]) C.1 2 dX6_partAt_22 rfl (by rw [ex_3]; rfl) (by rw [hXn]; decide) rfl ?_
      refine gk_goto (pc := 25) (tgt := 2) C.1 dX6_partAt_25 (by decide) ?_
      refine GK.sub (lv' := [(0, .ref G.2.2.1), (1, .int x1), (2, .int x_3)]) [1, 2, 0] rfl ?_
      exact ih _ _ _ hw
    · replace hw := hw.2 c_2
      refine gk_iload_n (pc := 20) C.1 2 dX6_partAt_20 rfl rfl ?_
      exact tk_iret (pc := 21) C hret dX6_partAt_21 hw
def wt_partAt (k : Int32 → TS → Prop) (x1 : Int32) (u : TS) : Prop := ∃ fu : Nat, wt_partAt_2 k fu x1 0 u
theorem wk_partAt (l : Launch) {G : TG} (hG : TD G) {k : Int32 → TS → Prop} {x1 : Int32} {u : TS} (hw : wt_partAt k x1 u) : TMet l yX6_partAt cX6_partAt 3 (some .int) 1 G [.ref G.2.2.1, .int x1] u (tI k) := by
  refine tk_met hG rfl (Nat.le_of_ble_eq_true rfl) (fun X hXl hXn hret C => ?_)
  subst hXl
  unfold wt_partAt at hw
  refine GK.sub (lv' := [(0, .ref G.2.2.1), (1, .int x1)]) [0, 1] rfl ?_
  refine gk_iconst (pc := 0) (v := 0) C.1 dX6_partAt_0 (by decide) ?_
  refine gk_istore_n (pc := 1) (lv' := [(2, Value.int 0), (0, Value.ref G.2.2.1), (1, Value.int x1)]) C.1 dX6_partAt_1 rfl (by rw [hXn]; decide) rfl ?_
  refine GK.sub (lv' := [(0, .ref G.2.2.1), (1, .int x1), (2, .int 0)]) [1, 2, 0] rfl ?_
  obtain ⟨n9, hw⟩ := hw
  exact kt_partAt_2 C hG hret hXn  n9 _ _ _ hw
/-! drops(I)I -/
def wt_drops (k : Int32 → TS → Prop) (x1 : Int32) (u : TS) : Prop := wt_partAt (fun r_2 u_1 => ((0 ≤ r_2 → (vp_in r_2 21 ∧ (∀ x_4 : Int32, x_4 = u_1.1 4 r_2.toNatClampNeg → (wt_putsAt (fun u_5 => k x_4 u_5) r_2 1 0 u_1)))) ∧ (¬ 0 ≤ r_2 → (wt_no (fun r_7 u_6 => k r_7 u_6) (-1) u_1)))) x1 u
theorem wk_drops (l : Launch) {G : TG} (hG : TD G) {k : Int32 → TS → Prop} {x1 : Int32} {u : TS} (hw : wt_drops k x1 u) : TMet l yX6_drops cX6_drops 4 (some .int) 5 G [.ref G.2.2.1, .int x1] u (tI k) := by
  refine tk_met hG rfl (Nat.le_of_ble_eq_true rfl) (fun X hXl hXn hret C => ?_)
  subst hXl
  unfold wt_drops at hw
  refine GK.sub (lv' := [(0, .ref G.2.2.1), (1, .int x1)]) [0, 1] rfl ?_
  refine gk_aload_n (pc := 0) C.1 0 dX6_drops_0 rfl rfl ?_
  refine gk_iload_n (pc := 1) C.1 1 dX6_drops_1 rfl rfl ?_
  refine tk_callV (pc := 2) (y := yX6_partAt) (n := 1) (As := [.int x1]) (rest := []) C (wk_partAt (ev_l X) hG hw) q2429 q2431 qs94 q2432 ⟨rfl, by decide +kernel⟩ ⟨by decide, by decide⟩ rfl rfl (Nat.le_of_ble_eq_true rfl) dX6_drops_2 (fun v9 u_1 hp => ?_)
  obtain ⟨r_2, rfl, hw⟩ := hp
  refine GK.at (p2 := 5) rfl ?_
  refine gk_istore_n (pc := 5) (lv' := [(2, Value.int r_2), (0, Value.ref G.2.2.1), (1, Value.int x1)]) C.1 dX6_drops_5 rfl (by rw [hXn]; decide) rfl ?_
  refine gk_iload_n (pc := 6) C.1 0 dX6_drops_6 rfl rfl ?_
  refine gk_if_ge (pc := 7) (tgt := 16) C.1 dX6_drops_7 (by decide) (fun c_3 => ?_) (fun c_3 => ?_)
  · replace hw := hw.1 c_3
    refine gk_aload_n (pc := 16) C.1 1 dX6_drops_16 rfl rfl ?_
    refine tk_getA (pc := 17) C (k := 4) (by decide) (by decide) q2125 rfl dX6_drops_17 ?_
    refine gk_iload_n (pc := 20) C.1 0 dX6_drops_20 rfl rfl ?_
    obtain ⟨hi, hw⟩ := hw
    refine tk_ald (pc := 21) C (k := 4) (by decide) hi dX6_drops_21 ?_
    obtain ⟨x_4, ex_4⟩ : ∃ z : Int32, z = u_1.1 4 r_2.toNatClampNeg := ⟨_, rfl⟩
    rw [← ex_4]
    replace hw := hw x_4 ex_4
    refine gk_istore_n (pc := 22) (lv' := [(3, Value.int x_4), (2, Value.int r_2), (0, Value.ref G.2.2.1), (1, Value.int x1)]) C.1 dX6_drops_22 rfl (by rw [hXn]; decide) rfl ?_
    refine gk_aload_n (pc := 23) C.1 2 dX6_drops_23 rfl rfl ?_
    refine gk_iload_n (pc := 24) C.1 1 dX6_drops_24 rfl rfl ?_
    refine gk_iconst (pc := 25) (v := 1) C.1 dX6_drops_25 (by decide) ?_
    refine gk_iconst (pc := 26) (v := 0) C.1 dX6_drops_26 (by decide) ?_
    refine tk_callV (pc := 27) (y := yX6_putsAt) (n := 3) (As := [.int r_2, .int 1, .int 0]) (rest := []) C (wk_putsAt (ev_l X) hG hw) q2441 q2443 qs95 q2444 ⟨rfl, by decide +kernel⟩ ⟨by decide, by decide⟩ rfl rfl (Nat.le_of_ble_eq_true rfl) dX6_drops_27 (fun v9 u_5 hp => ?_)
    obtain ⟨rfl, hw⟩ := hp
    refine GK.at (p2 := 30) rfl ?_
    refine gk_iload_n (pc := 30) C.1 0 dX6_drops_30 rfl rfl ?_
    exact tk_iret (pc := 31) C hret dX6_drops_31 hw
  · replace hw := hw.2 c_3
    refine gk_aload_n (pc := 10) C.1 1 dX6_drops_10 rfl rfl ?_
    refine gk_iconst (pc := 11) (v := (-1)) C.1 dX6_drops_11 (by decide) ?_
    refine tk_callV (pc := 12) (y := yX6_no) (n := 1) (As := [.int (-1)]) (rest := []) C (wk_no (ev_l X) hG hw) q2291 q2293 qs66 q2294 ⟨rfl, by decide +kernel⟩ ⟨by decide, by decide⟩ rfl rfl (Nat.le_of_ble_eq_true rfl) dX6_drops_12 (fun v9 u_6 hp => ?_)
    obtain ⟨r_7, rfl, hw⟩ := hp
    refine GK.at (p2 := 15) rfl ?_
    exact tk_iret (pc := 15) C hret dX6_drops_15 hw
/-! fault(II)I -/
def wt_fault (k : Int32 → TS → Prop) (x1 : Int32) (x2 : Int32) (u : TS) : Prop := wt_isIn (fun r_2 u_1 => ((¬ r_2 = 0 → (wt_manyNow (fun r_5 u_4 => wt_isIn (fun r_7 u_6 => ((¬ r_7 = 0 → (((¬ x2 = 0 → (vp_in x1 16384 ∧ (k (u_6.1 25 x1.toNatClampNeg) u_6))) ∧ (x2 = 0 → (vp_in x1 16384 ∧ (k (u_6.1 24 x1.toNatClampNeg) u_6)))))) ∧ (r_7 = 0 → (wt_no (fun r_11 u_10 => k r_11 u_10) (-1) u_6)))) x1 0 (r_5 - 1) u_4) u_1)) ∧ (r_2 = 0 → (wt_no (fun r_13 u_12 => k r_13 u_12) (-2) u_1)))) x2 0 1 u
theorem wk_fault (l : Launch) {G : TG} (hG : TD G) {k : Int32 → TS → Prop} {x1 : Int32} {x2 : Int32} {u : TS} (hw : wt_fault k x1 x2 u) : TMet l yX6_fault cX6_fault 3 (some .int) 10 G [.ref G.2.2.1, .int x1, .int x2] u (tI k) := by
  refine tk_met hG rfl (Nat.le_of_ble_eq_true rfl) (fun X hXl hXn hret C => ?_)
  subst hXl
  unfold wt_fault at hw
  refine GK.sub (lv' := [(0, .ref G.2.2.1), (1, .int x1), (2, .int x2)]) [0, 1, 2] rfl ?_
  refine gk_iload_n (pc := 0) C.1 2 dX6_fault_0 rfl rfl ?_
  refine gk_iconst (pc := 1) (v := 0) C.1 dX6_fault_1 (by decide) ?_
  refine gk_iconst (pc := 2) (v := 1) C.1 dX6_fault_2 (by decide) ?_
  refine tk_callS (pc := 3) (y := yX6_isIn) (n := 3) (As := [.int x2, .int 0, .int 1]) (rest := []) C (wk_isIn (ev_l X) hG hw) q2323 q2324 q2325 ⟨rfl, by decide +kernel⟩ ⟨by decide, by decide⟩ rfl rfl (Nat.le_of_ble_eq_true rfl) dX6_fault_3 (fun v9 u_1 hp => ?_)
  obtain ⟨r_2, rfl, hw⟩ := hp
  refine GK.at (p2 := 6) rfl ?_
  refine gk_if_ne (pc := 6) (tgt := 16) C.1 dX6_fault_6 (by decide) (fun c_3 => ?_) (fun c_3 => ?_)
  · replace hw := hw.1 c_3
    refine gk_iload_n (pc := 16) C.1 1 dX6_fault_16 rfl rfl ?_
    refine gk_iconst (pc := 17) (v := 0) C.1 dX6_fault_17 (by decide) ?_
    refine gk_aload_n (pc := 18) C.1 0 dX6_fault_18 rfl rfl ?_
    refine tk_callV (pc := 19) (y := yX6_manyNow) (n := 0) (As := []) (rest := [.int 0, .int x1]) C (wk_manyNow (ev_l X) hG hw) q2457 q2459 qs97 q2460 ⟨rfl, by decide +kernel⟩ ⟨by decide, by decide⟩ rfl rfl (Nat.le_of_ble_eq_true rfl) dX6_fault_19 (fun v9 u_4 hp => ?_)
    obtain ⟨r_5, rfl, hw⟩ := hp
    refine GK.at (p2 := 22) rfl ?_
    refine gk_iconst (pc := 22) (v := 1) C.1 dX6_fault_22 (by decide) ?_
    refine gk_isub (pc := 23) C.1 dX6_fault_23 ?_
    refine tk_callS (pc := 24) (y := yX6_isIn) (n := 3) (As := [.int x1, .int 0, .int (r_5 - 1)]) (rest := []) C (wk_isIn (ev_l X) hG hw) q2323 q2324 q2325 ⟨rfl, by decide +kernel⟩ ⟨by decide, by decide⟩ rfl rfl (Nat.le_of_ble_eq_true rfl) dX6_fault_24 (fun v9 u_6 hp => ?_)
    obtain ⟨r_7, rfl, hw⟩ := hp
    refine GK.at (p2 := 27) rfl ?_
    refine gk_if_ne (pc := 27) (tgt := 36) C.1 dX6_fault_27 (by decide) (fun c_8 => ?_) (fun c_8 => ?_)
    · replace hw := hw.1 c_8
      refine gk_iload_n (pc := 36) C.1 2 dX6_fault_36 rfl rfl ?_
      refine gk_if_ne (pc := 37) (tgt := 49) C.1 dX6_fault_37 (by decide) (fun c_9 => ?_) (fun c_9 => ?_)
      · replace hw := hw.1 c_9
        refine gk_aload_n (pc := 49) C.1 0 dX6_fault_49 rfl rfl ?_
        refine tk_getA (pc := 50) C (k := 25) (by decide) (by decide) q2146 rfl dX6_fault_50 ?_
        refine gk_iload_n (pc := 53) C.1 1 dX6_fault_53 rfl rfl ?_
        obtain ⟨hi, hw⟩ := hw
        refine tk_ald (pc := 54) C (k := 25) (by decide) hi dX6_fault_54 ?_
        exact tk_iret (pc := 55) C hret dX6_fault_55 hw
      · replace hw := hw.2 c_9
        refine gk_aload_n (pc := 40) C.1 0 dX6_fault_40 rfl rfl ?_
        refine tk_getA (pc := 41) C (k := 24) (by decide) (by decide) q2145 rfl dX6_fault_41 ?_
        refine gk_iload_n (pc := 44) C.1 1 dX6_fault_44 rfl rfl ?_
        obtain ⟨hi, hw⟩ := hw
        refine tk_ald (pc := 45) C (k := 24) (by decide) hi dX6_fault_45 ?_
        refine gk_goto (pc := 46) (tgt := 55) C.1 dX6_fault_46 (by decide) ?_
        exact tk_iret (pc := 55) C hret dX6_fault_55 hw
    · replace hw := hw.2 c_8
      refine gk_aload_n (pc := 30) C.1 0 dX6_fault_30 rfl rfl ?_
      refine gk_iconst (pc := 31) (v := (-1)) C.1 dX6_fault_31 (by decide) ?_
      refine tk_callV (pc := 32) (y := yX6_no) (n := 1) (As := [.int (-1)]) (rest := []) C (wk_no (ev_l X) hG hw) q2291 q2293 qs66 q2294 ⟨rfl, by decide +kernel⟩ ⟨by decide, by decide⟩ rfl rfl (Nat.le_of_ble_eq_true rfl) dX6_fault_32 (fun v9 u_10 hp => ?_)
      obtain ⟨r_11, rfl, hw⟩ := hp
      refine GK.at (p2 := 35) rfl ?_
      exact tk_iret (pc := 35) C hret dX6_fault_35 hw
  · replace hw := hw.2 c_3
    refine gk_aload_n (pc := 9) C.1 0 dX6_fault_9 rfl rfl ?_
    refine gk_bipush (pc := 10) (v := (-2)) C.1 dX6_fault_10 (by decide) ?_
    refine tk_callV (pc := 12) (y := yX6_no) (n := 1) (As := [.int (-2)]) (rest := []) C (wk_no (ev_l X) hG hw) q2291 q2293 qs66 q2294 ⟨rfl, by decide +kernel⟩ ⟨by decide, by decide⟩ rfl rfl (Nat.le_of_ble_eq_true rfl) dX6_fault_12 (fun v9 u_12 hp => ?_)
    obtain ⟨r_13, rfl, hw⟩ := hp
    refine GK.at (p2 := 15) rfl ?_
    exact tk_iret (pc := 15) C hret dX6_fault_15 hw
/-! faults()I -/
def wt_faults (k : Int32 → TS → Prop) (u : TS) : Prop := wt_manyNow (fun r_2 u_1 => k r_2 u_1) u
theorem wk_faults (l : Launch) {G : TG} (hG : TD G) {k : Int32 → TS → Prop} {u : TS} (hw : wt_faults k  u) : TMet l yX6_faults cX6_faults 1 (some .int) 10 G [.ref G.2.2.1] u (tI k) := by
  refine tk_met hG rfl (Nat.le_of_ble_eq_true rfl) (fun X hXl hXn hret C => ?_)
  subst hXl
  unfold wt_faults at hw
  refine GK.sub (lv' := [(0, .ref G.2.2.1)]) [0] rfl ?_
  refine gk_aload_n (pc := 0) C.1 0 dX6_faults_0 rfl rfl ?_
  refine tk_callV (pc := 1) (y := yX6_manyNow) (n := 0) (As := []) (rest := []) C (wk_manyNow (ev_l X) hG hw) q2457 q2459 qs97 q2460 ⟨rfl, by decide +kernel⟩ ⟨by decide, by decide⟩ rfl rfl (Nat.le_of_ble_eq_true rfl) dX6_faults_1 (fun v9 u_1 hp => ?_)
  obtain ⟨r_2, rfl, hw⟩ := hp
  refine GK.at (p2 := 4) rfl ?_
  exact tk_iret (pc := 4) C hret dX6_faults_4 hw
/-! passesValue(IZ)V -/
def wt_passesValue (k : TS → Prop) (x1 : Int32) (x2 : Int32) (u : TS) : Prop := ∀ u_1 : TS, u_1 = tpI u 50 (460 * x1) → (bz x2 ∧ (∀ u_2 : TS, u_2 = tpI u_1 49 x2 → (wt_passes (fun u_3 => wt_passes (fun u_4 => wt_passes (fun u_5 => wt_passOne (fun r_7 u_6 => ∀ u_8 : TS, u_8 = tpI u_6 6 r_7 → (((¬ x2 = 0 → (k u_8)) ∧ (x2 = 0 → (wt_measures (fun u_10 => k u_10) u_8))))) (u_5.2 6) u_5) 3 u_4) 2 u_3) 1 u_2)))
theorem wk_passesValue (l : Launch) {G : TG} (hG : TD G) {k : TS → Prop} {x1 : Int32} {x2 : Int32} {u : TS} (hw : wt_passesValue k x1 x2 u) : TMet l yX6_passesValue cX6_passesValue 3 (none) 4 G [.ref G.2.2.1, .int x1, .int x2] u (tV k) := by
  refine tk_met hG rfl (Nat.le_of_ble_eq_true rfl) (fun X hXl hXn hret C => ?_)
  subst hXl
  unfold wt_passesValue at hw
  refine GK.sub (lv' := [(0, .ref G.2.2.1), (1, .int x1), (2, .int x2)]) [0, 1, 2] rfl ?_
  refine gk_aload_n (pc := 0) C.1 0 dX6_passesValue_0 rfl rfl ?_
  refine gk_sipush (pc := 1) (v := 460) C.1 dX6_passesValue_1 (by decide) ?_
  refine gk_iload_n (pc := 4) C.1 1 dX6_passesValue_4 rfl rfl ?_
  refine gk_imul (pc := 5) C.1 dX6_passesValue_5 ?_
  refine tk_putI (pc := 6) C (k := 50) (by decide) (by decide) q2171 rfl rfl (ty := .int) rfl rfl rfl dX6_passesValue_6 (fun u_1 eu_1 => ?_)
  replace hw := hw u_1 eu_1
  refine gk_aload_n (pc := 9) C.1 0 dX6_passesValue_9 rfl rfl ?_
  refine gk_iload_n (pc := 10) C.1 2 dX6_passesValue_10 rfl rfl ?_
  obtain ⟨hz, hw⟩ := hw
  refine tk_putI (pc := 11) C (k := 49) (by decide) (by decide) q2170 rfl rfl (ty := .boolean) rfl (bz_nar hz) (bz_fit hz) dX6_passesValue_11 (fun u_2 eu_2 => ?_)
  replace hw := hw u_2 eu_2
  refine gk_aload_n (pc := 14) C.1 0 dX6_passesValue_14 rfl rfl ?_
  refine gk_aload_n (pc := 15) C.1 0 dX6_passesValue_15 rfl rfl ?_
  refine tk_getA (pc := 16) C (k := 1) (by decide) (by decide) q2122 rfl dX6_passesValue_16 ?_
  refine tk_callV (pc := 19) (y := yX6_passes) (n := 1) (As := [.ref (G.2.2.2 1)]) (rest := []) C (wk_passes (ev_l X) hG hw) q2303 q2305 qs68 q2306 ⟨rfl, by decide +kernel⟩ ⟨by decide, by decide⟩ rfl rfl (Nat.le_of_ble_eq_true rfl) dX6_passesValue_19 (fun v9 u_3 hp => ?_)
  obtain ⟨rfl, hw⟩ := hp
  refine GK.at (p2 := 22) rfl ?_
  refine gk_aload_n (pc := 22) C.1 0 dX6_passesValue_22 rfl rfl ?_
  refine gk_aload_n (pc := 23) C.1 0 dX6_passesValue_23 rfl rfl ?_
  refine tk_getA (pc := 24) C (k := 2) (by decide) (by decide) q2123 rfl dX6_passesValue_24 ?_
  refine tk_callV (pc := 27) (y := yX6_passes) (n := 1) (As := [.ref (G.2.2.2 2)]) (rest := []) C (wk_passes (ev_l X) hG hw) q2303 q2305 qs68 q2306 ⟨rfl, by decide +kernel⟩ ⟨by decide, by decide⟩ rfl rfl (Nat.le_of_ble_eq_true rfl) dX6_passesValue_27 (fun v9 u_4 hp => ?_)
  obtain ⟨rfl, hw⟩ := hp
  refine GK.at (p2 := 30) rfl ?_
  refine gk_aload_n (pc := 30) C.1 0 dX6_passesValue_30 rfl rfl ?_
  refine gk_aload_n (pc := 31) C.1 0 dX6_passesValue_31 rfl rfl ?_
  refine tk_getA (pc := 32) C (k := 3) (by decide) (by decide) q2124 rfl dX6_passesValue_32 ?_
  refine tk_callV (pc := 35) (y := yX6_passes) (n := 1) (As := [.ref (G.2.2.2 3)]) (rest := []) C (wk_passes (ev_l X) hG hw) q2303 q2305 qs68 q2306 ⟨rfl, by decide +kernel⟩ ⟨by decide, by decide⟩ rfl rfl (Nat.le_of_ble_eq_true rfl) dX6_passesValue_35 (fun v9 u_5 hp => ?_)
  obtain ⟨rfl, hw⟩ := hp
  refine GK.at (p2 := 38) rfl ?_
  refine gk_aload_n (pc := 38) C.1 0 dX6_passesValue_38 rfl rfl ?_
  refine gk_aload_n (pc := 39) C.1 0 dX6_passesValue_39 rfl rfl ?_
  refine gk_aload_n (pc := 40) C.1 0 dX6_passesValue_40 rfl rfl ?_
  refine tk_getI (pc := 41) C (k := 6) (by decide) (by decide) q2127 rfl dX6_passesValue_41 ?_
  refine tk_callV (pc := 44) (y := yX6_passOne) (n := 1) (As := [.int (u_5.2 6)]) (rest := [.ref G.2.2.1]) C (wk_passOne (ev_l X) hG hw) q2307 q2309 qs69 q2310 ⟨rfl, by decide +kernel⟩ ⟨by decide, by decide⟩ rfl rfl (Nat.le_of_ble_eq_true rfl) dX6_passesValue_44 (fun v9 u_6 hp => ?_)
  obtain ⟨r_7, rfl, hw⟩ := hp
  refine GK.at (p2 := 47) rfl ?_
  refine tk_putI (pc := 47) C (k := 6) (by decide) (by decide) q2127 rfl rfl (ty := .int) rfl rfl rfl dX6_passesValue_47 (fun u_8 eu_8 => ?_)
  replace hw := hw u_8 eu_8
  refine gk_iload_n (pc := 50) C.1 2 dX6_passesValue_50 rfl rfl ?_
  refine gk_if_ne (pc := 51) (tgt := 58) C.1 dX6_passesValue_51 (by decide) (fun c_9 => ?_) (fun c_9 => ?_)
  · replace hw := hw.1 c_9
    exact tk_vret (pc := 58) C hret dX6_passesValue_58 hw
  · replace hw := hw.2 c_9
    refine gk_aload_n (pc := 54) C.1 0 dX6_passesValue_54 rfl rfl ?_
    refine tk_callV (pc := 55) (y := yX6_measures) (n := 0) (As := []) (rest := []) C (wk_measures (ev_l X) hG hw) q2109 q2111 qs63 q2112 ⟨rfl, by decide +kernel⟩ ⟨by decide, by decide⟩ rfl rfl (Nat.le_of_ble_eq_true rfl) dX6_passesValue_55 (fun v9 u_10 hp => ?_)
    obtain ⟨rfl, hw⟩ := hp
    refine GK.at (p2 := 58) rfl ?_
    exact tk_vret (pc := 58) C hret dX6_passesValue_58 hw
/-! forgets()V -/
def wt_forgets (k : TS → Prop) (u : TS) : Prop := wt_passesValue (fun u_1 => k u_1) 2 0 u
theorem wk_forgets (l : Launch) {G : TG} (hG : TD G) {k : TS → Prop} {u : TS} (hw : wt_forgets k  u) : TMet l yX6_forgets cX6_forgets 1 (none) 5 G [.ref G.2.2.1] u (tV k) := by
  refine tk_met hG rfl (Nat.le_of_ble_eq_true rfl) (fun X hXl hXn hret C => ?_)
  subst hXl
  unfold wt_forgets at hw
  refine GK.sub (lv' := [(0, .ref G.2.2.1)]) [0] rfl ?_
  refine gk_aload_n (pc := 0) C.1 0 dX6_forgets_0 rfl rfl ?_
  refine gk_iconst (pc := 1) (v := 2) C.1 dX6_forgets_1 (by decide) ?_
  refine gk_iconst (pc := 2) (v := 0) C.1 dX6_forgets_2 (by decide) ?_
  refine tk_callV (pc := 3) (y := yX6_passesValue) (n := 2) (As := [.int 2, .int 0]) (rest := []) C (wk_passesValue (ev_l X) hG hw) q2299 q2301 qs67 q2302 ⟨rfl, by decide +kernel⟩ ⟨by decide, by decide⟩ rfl rfl (Nat.le_of_ble_eq_true rfl) dX6_forgets_3 (fun v9 u_1 hp => ?_)
  obtain ⟨rfl, hw⟩ := hp
  refine GK.at (p2 := 6) rfl ?_
  exact tk_vret (pc := 6) C hret dX6_forgets_6 hw
/-! minds()V -/
def wt_minds (k : TS → Prop) (u : TS) : Prop := wt_passesValue (fun u_1 => k u_1) 2 1 u
theorem wk_minds (l : Launch) {G : TG} (hG : TD G) {k : TS → Prop} {u : TS} (hw : wt_minds k  u) : TMet l yX6_minds cX6_minds 1 (none) 5 G [.ref G.2.2.1] u (tV k) := by
  refine tk_met hG rfl (Nat.le_of_ble_eq_true rfl) (fun X hXl hXn hret C => ?_)
  subst hXl
  unfold wt_minds at hw
  refine GK.sub (lv' := [(0, .ref G.2.2.1)]) [0] rfl ?_
  refine gk_aload_n (pc := 0) C.1 0 dX6_minds_0 rfl rfl ?_
  refine gk_iconst (pc := 1) (v := 2) C.1 dX6_minds_1 (by decide) ?_
  refine gk_iconst (pc := 2) (v := 1) C.1 dX6_minds_2 (by decide) ?_
  refine tk_callV (pc := 3) (y := yX6_passesValue) (n := 2) (As := [.int 2, .int 1]) (rest := []) C (wk_passesValue (ev_l X) hG hw) q2299 q2301 qs67 q2302 ⟨rfl, by decide +kernel⟩ ⟨by decide, by decide⟩ rfl rfl (Nat.le_of_ble_eq_true rfl) dX6_minds_3 (fun v9 u_1 hp => ?_)
  obtain ⟨rfl, hw⟩ := hp
  refine GK.at (p2 := 6) rfl ?_
  exact tk_vret (pc := 6) C hret dX6_minds_6 hw
/-! faultsWith(II)I -/
def wt_faultsWith (k : Int32 → TS → Prop) (x1 : Int32) (x2 : Int32) (u : TS) : Prop := wt_minds (fun u_1 => wt_putsAt (fun u_2 => wt_manyNow (fun r_4 u_3 => wt_forgets (fun u_5 => k r_4 u_5) u_3) u_2) x1 0 x2 u_1) u
theorem wk_faultsWith (l : Launch) {G : TG} (hG : TD G) {k : Int32 → TS → Prop} {x1 : Int32} {x2 : Int32} {u : TS} (hw : wt_faultsWith k x1 x2 u) : TMet l yX6_faultsWith cX6_faultsWith 4 (some .int) 10 G [.ref G.2.2.1, .int x1, .int x2] u (tI k) := by
  refine tk_met hG rfl (Nat.le_of_ble_eq_true rfl) (fun X hXl hXn hret C => ?_)
  subst hXl
  unfold wt_faultsWith at hw
  refine GK.sub (lv' := [(0, .ref G.2.2.1), (1, .int x1), (2, .int x2)]) [0, 1, 2] rfl ?_
  refine gk_aload_n (pc := 0) C.1 0 dX6_faultsWith_0 rfl rfl ?_
  refine tk_callV (pc := 1) (y := yX6_minds) (n := 0) (As := []) (rest := []) C (wk_minds (ev_l X) hG hw) q2624 q2626 qs126 q2627 ⟨rfl, by decide +kernel⟩ ⟨by decide, by decide⟩ rfl rfl (Nat.le_of_ble_eq_true rfl) dX6_faultsWith_1 (fun v9 u_1 hp => ?_)
  obtain ⟨rfl, hw⟩ := hp
  refine GK.at (p2 := 4) rfl ?_
  refine gk_aload_n (pc := 4) C.1 0 dX6_faultsWith_4 rfl rfl ?_
  refine gk_iload_n (pc := 5) C.1 1 dX6_faultsWith_5 rfl rfl ?_
  refine gk_iconst (pc := 6) (v := 0) C.1 dX6_faultsWith_6 (by decide) ?_
  refine gk_iload_n (pc := 7) C.1 2 dX6_faultsWith_7 rfl rfl ?_
  refine tk_callV (pc := 8) (y := yX6_putsAt) (n := 3) (As := [.int x1, .int 0, .int x2]) (rest := []) C (wk_putsAt (ev_l X) hG hw) q2441 q2443 qs95 q2444 ⟨rfl, by decide +kernel⟩ ⟨by decide, by decide⟩ rfl rfl (Nat.le_of_ble_eq_true rfl) dX6_faultsWith_8 (fun v9 u_2 hp => ?_)
  obtain ⟨rfl, hw⟩ := hp
  refine GK.at (p2 := 11) rfl ?_
  refine gk_aload_n (pc := 11) C.1 0 dX6_faultsWith_11 rfl rfl ?_
  refine tk_callV (pc := 12) (y := yX6_manyNow) (n := 0) (As := []) (rest := []) C (wk_manyNow (ev_l X) hG hw) q2457 q2459 qs97 q2460 ⟨rfl, by decide +kernel⟩ ⟨by decide, by decide⟩ rfl rfl (Nat.le_of_ble_eq_true rfl) dX6_faultsWith_12 (fun v9 u_3 hp => ?_)
  obtain ⟨r_4, rfl, hw⟩ := hp
  refine GK.at (p2 := 15) rfl ?_
  refine gk_istore_n (pc := 15) (lv' := [(3, Value.int r_4), (0, Value.ref G.2.2.1), (1, Value.int x1), (2, Value.int x2)]) C.1 dX6_faultsWith_15 rfl (by rw [hXn]; decide) rfl ?_
  refine gk_aload_n (pc := 16) C.1 1 dX6_faultsWith_16 rfl rfl ?_
  refine tk_callV (pc := 17) (y := yX6_forgets) (n := 0) (As := []) (rest := []) C (wk_forgets (ev_l X) hG hw) q2632 q2634 qs128 q2635 ⟨rfl, by decide +kernel⟩ ⟨by decide, by decide⟩ rfl rfl (Nat.le_of_ble_eq_true rfl) dX6_faultsWith_17 (fun v9 u_5 hp => ?_)
  obtain ⟨rfl, hw⟩ := hp
  refine GK.at (p2 := 20) rfl ?_
  refine gk_iload_n (pc := 20) C.1 0 dX6_faultsWith_20 rfl rfl ?_
  exact tk_iret (pc := 21) C hret dX6_faultsWith_21 hw
