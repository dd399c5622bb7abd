/-! EXCEPTIONS: the words of the constructors above Refused and Fault; an index out of range in Row.at (printed by tools/exc.py) -/
set_option maxRecDepth 100000
theorem tb_hat {X : Ev} {G : GG} {own : String} {cc : ByteArray} {d : Nat} (C : HC X G own cc d) {L : List Jvm.Cond} (ps : List Nat) (hp : L = ps.filterMap (fun i => lw_tbl[i]?)) (hg : L.all (fun w => goodWord w || rwW w) = true) : ∀ w ∈ L, w.before (ev_a X) (ev_s X) = true := by
  intro w hw
  have h1 := List.all_eq_true.mp hg w hw
  have h2 : w ∈ lw_tbl := by
    rw [hp, List.mem_filterMap] at hw
    obtain ⟨i, -, hi⟩ := hw
    exact List.mem_of_getElem? hi
  rw [Bool.or_eq_true] at h1
  rcases h1 with h1 | h1
  · exact C.1.2.2.2.2.1 w (lw_g h2 h1)
  · exact va_Nw.use (by cases w <;> first | rfl | exact absurd h1 (by simp [rwW])) (C.2.1.2.1 w h2 h1)
theorem tb_ot {L : List Jvm.Cond} (hg : L.all vx_ot = true) : ∀ w ∈ L, vx_ot w = true := fun w hw => List.all_eq_true.mp hg w hw
theorem at_X8 : ((supAtoms RX8 "GathersAllFaults$Refusal" ["java/lang/RuntimeException", "java/lang/Exception"] 7).filter vx_no) = ([145, 366, 375, 379, 382, 384, 367, 368, 191, 192, 369, 374, 380, 401, 356, 402, 358, 403, 360, 370, 372, 362, 389, 390, 391, 392, 347, 392, 393, 394, 395, 349, 395, 396, 397, 367, 351, 344, 353, 354, 355, 357, 359, 365, 364, 363] : List Nat).filterMap (fun i => lw_tbl[i]?) := by decide +kernel
theorem atg_X8 : ((supAtoms RX8 "GathersAllFaults$Refusal" ["java/lang/RuntimeException", "java/lang/Exception"] 7).filter vx_no).all (fun w => goodWord w || rwW w) = true := by decide +kernel
theorem ato_X8 : ((supAtoms RX8 "GathersAllFaults$Refusal" ["java/lang/RuntimeException", "java/lang/Exception"] 7).filter vx_no).all vx_ot = true := by decide +kernel
theorem gh_supX8 {X : Ev} {G : GG} {d : Nat} {lv : List (Nat × Value)} {rest : List Value} {h : HS} {Q0 : State → Prop} {a pc : Nat} (C : HC X G RX8 cX8_init (d + 1)) (ht : hT h a = 16) (hfr : hI h 98 a = 0) (hd : 8 ≤ d) (hc : (rest.map fun v => v.category).sum ≤ 8) (hdg : decode cX8_init pc = .ok (.invokespecial 1, 3)) (kk : ∀ h2 : HS, h2 = sI h 98 a 1 → GH X G h2 Q0 (pc + 3) lv rest) : GH X G h Q0 pc lv (.ref a :: rest) :=
  gh_sup (ci := 15) (ic := 1) (n := 7) (cls := "GathersAllFaults$Refusal") (names := ["java/lang/RuntimeException", "java/lang/Exception"]) (T0 := TX8r) (f0 := 55) (host := "GathersAllFaults") C (by decide) rfl rfl in_X8r (ty0 := tyX8r) tyX8r_ok (by decide) ht hfr (by decide) (by decide) (tb_hat C _ at_X8 atg_X8) q388 (tb_ot ato_X8) (by show 2 + 3 < d + 1; omega) (by decide) hc hdg kk
theorem at_X10 : ((supAtoms RX10 "GathersAllFaults$Refusal" ["java/lang/RuntimeException", "java/lang/Exception"] 7).filter vx_no) = ([145, 366, 375, 379, 382, 384, 367, 368, 191, 192, 369, 374, 380, 401, 356, 402, 358, 403, 360, 370, 372, 362, 389, 390, 391, 392, 347, 392, 393, 394, 395, 349, 395, 396, 397, 367, 351, 477, 479, 377, 480, 481, 482, 365, 364, 484] : List Nat).filterMap (fun i => lw_tbl[i]?) := by decide +kernel
theorem atg_X10 : ((supAtoms RX10 "GathersAllFaults$Refusal" ["java/lang/RuntimeException", "java/lang/Exception"] 7).filter vx_no).all (fun w => goodWord w || rwW w) = true := by decide +kernel
theorem ato_X10 : ((supAtoms RX10 "GathersAllFaults$Refusal" ["java/lang/RuntimeException", "java/lang/Exception"] 7).filter vx_no).all vx_ot = true := by decide +kernel
theorem gh_supX10 {X : Ev} {G : GG} {d : Nat} {lv : List (Nat × Value)} {rest : List Value} {h : HS} {Q0 : State → Prop} {a pc : Nat} (C : HC X G RX10 cX10_init (d + 1)) (ht : hT h a = 17) (hfr : hI h 98 a = 0) (hd : 8 ≤ d) (hc : (rest.map fun v => v.category).sum ≤ 8) (hdg : decode cX10_init pc = .ok (.invokespecial 1, 3)) (kk : ∀ h2 : HS, h2 = sI h 98 a 1 → GH X G h2 Q0 (pc + 3) lv rest) : GH X G h Q0 pc lv (.ref a :: rest) :=
  gh_sup (ci := 16) (ic := 1) (n := 7) (cls := "GathersAllFaults$Refusal") (names := ["java/lang/RuntimeException", "java/lang/Exception"]) (T0 := TX10r) (f0 := 56) (host := "GathersAllFaults") C (by decide) rfl rfl in_X10r (ty0 := tyX10r) tyX10r_ok (by decide) ht hfr (by decide) (by decide) (tb_hat C _ at_X10 atg_X10) q488 (tb_ot ato_X10) (by show 2 + 3 < d + 1; omega) (by decide) hc hdg kk
theorem at_AIO : (vx_atM "java/lang/ArrayIndexOutOfBoundsException" ["java/lang/IndexOutOfBoundsException", "java/lang/RuntimeException", "java/lang/Exception"]) = ([145, 366, 375, 379, 382, 384, 367, 368, 191, 192, 369, 374, 380, 401, 356, 402, 358, 403, 360, 370, 372, 362, 1487, 1488, 400, 362, 1475, 1476, 1477, 1478, 1498, 1478, 1479, 1480, 1481, 348, 1481, 1482, 1483, 1484, 350, 1484, 1485, 1486, 1487, 352, 181, 1500, 259, 1501, 1503, 1502, 1504, 180, 1474, 1496, 1499, 378, 1491, 1492, 1494, 1490, 365, 364, 1489] : List Nat).filterMap (fun i => lw_tbl[i]?) := by decide +kernel
theorem atg_AIO : (vx_atM "java/lang/ArrayIndexOutOfBoundsException" ["java/lang/IndexOutOfBoundsException", "java/lang/RuntimeException", "java/lang/Exception"]).all (fun w => goodWord w || rwW w) = true := by decide +kernel
theorem ato_AIO : (vx_atM "java/lang/ArrayIndexOutOfBoundsException" ["java/lang/IndexOutOfBoundsException", "java/lang/RuntimeException", "java/lang/Exception"]).all vx_ot = true := by decide +kernel
theorem RH.sz {G : GG} {h : HS} {H H1 : Heap} (r : RH G h H) (h1 : H.size ≤ H1.size) (h2 : ∀ q : Nat, q < H.size → H1[q]? = H[q]?) (h3 : H1.size ≤ gCC G) (h4 : slS H1 ≤ gSS G) : RH G (hSz h H1.size (slS H1)) H1 := by
  obtain ⟨⟨r1, r2, r3, r4⟩, r5, r6, r7, r8, r9, r10, r11, r12⟩ := r
  have lt : ∀ a, hT h a ≠ 0 → a < H.size := fun a ha => by rw [r1]; exact r5 a ha
  refine ⟨⟨rfl, rfl, h3, h4⟩, fun a ha => Nat.lt_of_lt_of_le (lt a ha) h1, fun a ha => ?_, fun a i e hi => ?_, r8, r9, r10, r11, fun a ha h0 => ?_⟩
  · have := lt a (fun q => by rw [show hT (hSz h H1.size (slS H1)) a = hT h a from rfl, q, hE0] at ha; cases ha)
    exact (r6 a ha).kept (h2 a this)
  · have e2 : hT h a = 200 + i := e
    obtain ⟨cell, c1, c2⟩ := r7 a i e2 hi
    exact ⟨cell, by rw [h2 a (lt a (by omega))]; exact c1, c2⟩
  · have ha2 : hT h a = 16 ∨ hT h a = 17 := ha
    rw [h2 a (lt a (by omega))]
    exact r12 a ha2 h0
theorem gh_aaOut {X : Ev} {G : GG} {d : Nat} {lv : List (Nat × Value)} {h : HS} {Q0 : State → Prop} {a : Nat} {x : Int32} (C : HC X G RX18 cX18_at (d + 1)) (hTb : (ev_c X).exceptionTable.toList = tableOf [(0, 28, 29, 31)]) (ht : hT h a = 111) (hi : ¬ vp_in x (hN h a)) (hnb : hN h a < 2 ^ 31) (h1 : hZ h + 3 ≤ gCC G) (h2 : hL h + 222 ≤ gSS G) (hd : 8 ≤ d) (hdg : decode cX18_at 5 = .ok (.aaload, 1)) (kk : ∀ (z : Nat) (h2 : HS), hVm h h2 → GH X G h2 Q0 29 lv [.ref z]) : GH X G h Q0 5 lv [.int x, .ref a] := by
  intro H locs ls hP hS hl
  have c0 := hP.1.2.2.1 a (hE_arr ht (by decide))
  rw [hcell_arr ht (by decide), if_neg (by decide)] at c0
  have c1 : H[a]? = some (vp_cell (gAr G 111) (hN h a, .inr (.inr (.inr (.inr (hB h a)))))) := c0
  have hnote : vx_Note (ev_p X) (ev_l X) (ev_e X) (ev_R X) (ev_s X) (ev_m X) (ev_a X) (ev_b X) (ev_h X) (ev_c X) H locs (hZ h - (ev_s X).heap.size) (hL h - slS (ev_s X).heap) Q0 (F0 (ev_m X) 5 ls []) "java/lang/ArrayIndexOutOfBoundsException" (toString "Index " ++ toString x ++ toString " out of bounds for length " ++ toString (hN h a)) := by
    have hz1 := hP.1.1.2.2.1
    have hz2 := hP.1.1.2.2.2
    have hz3 := hP.2.2.1
    have hz4 := hP.2.2.2
    refine vx_vm C.1.1 C.2.2.2.2.2 (nb := 212) (names := ["java/lang/IndexOutOfBoundsException", "java/lang/RuntimeException", "java/lang/Exception"]) (by decide) (by decide) (by decide) (by decide) (tb_hat C _ at_AIO atg_AIO) (tb_ot ato_AIO) C.2.2.1.2.2.2.2.1 C.2.2.1.2.2.2.2.2.1 hS (by rw [C.1.2.2.1]; exact hl.1) (index_text_modelled x (hN h a)) (index_text_bytes x hnb) (by decide) (by rw [C.2.2.2.1]; show 3 + 4 < d + 1; omega) (by rw [C.2.2.2.1]; show 0 + 10240 ≤ 64 * (d + 1) + 10304; omega) (by decide) (by rw [C.2.2.2.1]; dsimp only [hrm]; omega) (by rw [C.2.2.2.1]; dsimp only [hrm]; omega) C.1.2.2.2.2.2 ?_
    intro H1 q9 ce g1 g2 g3 g4 g5 g6 T1 hT1 Z1
    have s1 : H1.size ≤ hZ h + 3 := by
      have := Z1.same.2.2.1
      rw [← hT1]
      show T1.heap.size ≤ _
      have q : T1.heap.size ≤ (ev_s X).heap.size + (hZ h - (ev_s X).heap.size + 3) := this
      omega
    have s2 : slS H1 ≤ hL h + 222 := by
      have q := Z1.same.2.2.2.2.1
      have q2 : ((T1.heap.toList.drop (ev_s X).heap.size).map (·.slots.size)).sum ≤ hL h - slS (ev_s X).heap + (212 + 10) := q
      rw [← hT1, stand_slS Z1]
      omega
    have s3 : hL h ≤ slS H1 := by
      rw [← hP.1.1.2.1, slS_drop g1 (fun q c hq => ⟨c, by rw [g2 q (Array.getElem?_eq_some_iff.mp hq).1]; exact hq, rfl⟩)]
      exact Nat.le_add_right _ _
    have s0 := hP.1.1.1
    have hP1 : RP X G (hSz h H1.size (slS H1)) H1 := by
      refine ⟨hP.1.sz g1 g2 (by omega) (by omega), fun q hq => ?_, by show _ ≤ H1.size; omega, by show _ ≤ slS H1; omega⟩
      rcases hq with hq | hq
      · exact hP.2.1 q (Or.inl hq)
      · exact hP.2.1 q (Or.inr (by have q2 : H1.size ≤ q := hq; omega))
    have k9 := kk q9 (hSz h H1.size (slS H1)) ⟨H1.size, slS H1, by omega, s1, s3, s2, rfl⟩ H1 locs ls hP1 g3 hl
    have hca : (Cond.castable "java/lang/ArrayIndexOutOfBoundsException" "java/lang/ArrayIndexOutOfBoundsException").before (ev_a X) (ev_s X) = true := va_Nw.use rfl (C.2.1.2.1 _ q1496 rfl)
    have v9 := vx_catch (pc := 5) (rest := []) C.1.2.2.2.1 [] { startPc := 0, endPc := 28, handlerPc := 29, catchType := 31 } [] hTb (fun z hz => nomatch hz) (by decide) (by decide) (C.1.2.2.2.2.1 _ q1473) hca g4 g5 g6 k9
    exact vx_narrow (by rw [s0] at g1; show H1.size ≤ _; have e : hZ (hSz h H1.size (slS H1)) = H1.size := rfl; rw [e]; omega) (by have e : hL (hSz h H1.size (slS H1)) = slS H1 := rfl; rw [e]; omega) v9 T1 hT1 Z1
  intro T hT Z
  obtain ⟨t, st, q⟩ := hnote T hT Z
  refine ⟨t, ?_, q⟩
  have hsz : (vp_cell (gAr G 111) (hN h a, .inr (.inr (.inr (.inr (hB h a)))))).slots.size = hN h a := vp_cell_sz _ _ _
  have h9 := Z.aaloadOut C.1.1 (a := a) (cell := vp_cell (gAr G 111) (hN h a, .inr (.inr (.inr (.inr (hB h a)))))) (ty := .object "java/lang/Object") (by rw [hT]; exact c1) (((C.2.1.1.2 3 _ rfl).1) (hN h a) _) (j := x) (by rw [hsz]; exact Classical.byContradiction hi) (g := F0 (ev_m X) 5 ls [.int x, .ref a]) rfl (rest := []) rfl (by rw [C.1.2.1]; exact hdg) t
  rw [hsz] at h9
  exact h9 st
