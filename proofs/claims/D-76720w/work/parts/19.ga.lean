/-! ROWS of the component's walks: arrays, new cells -/
theorem hcell_arr {G : GG} {h : HS} {a t : Nat} (ht : hT h a = t) (h1 : 26 < t) : hcell G h a = .inl (gAr G t, (hN h a, if t ≤ 103 then .inl (hA h a) else .inr (.inr (.inr (.inr (hB h a)))))) := by
  unfold hcell
  rw [ht, if_neg (by omega)]
theorem hE_arr {h : HS} {a t : Nat} (ht : hT h a = t) (h1 : t ∈ tyT) : hE (hT h a) = true := by
  rw [ht]
  unfold hE
  simp [h1]
theorem hcell_sA {G : GG} {h : HS} {a j : Nat} {v : Int32} {b : Nat} (e : b ≠ a) : hcell G (sA h a j v) b = hcell G h b := by
  have h1 : hA (sA h a j v) b = hA h b := funext fun i => by rw [hA_sA, if_neg (fun z => e z.1)]
  show (if hT h b ≤ 26 then _ else Sum.inl (gAr G (hT h b), (hN h b, if hT h b ≤ 103 then Sum.inl (hA (sA h a j v) b) else _))) = _
  rw [h1]
  rfl
theorem hcell_sB {G : GG} {h : HS} {a j : Nat} {v : Option Nat} {b : Nat} (e : b ≠ a) : hcell G (sB h a j v) b = hcell G h b := by
  have h1 : hB (sB h a j v) b = hB h b := funext fun i => by rw [hB_sB, if_neg (fun z => e z.1)]
  show (if hT h b ≤ 26 then _ else Sum.inl (gAr G (hT h b), (hN h b, if hT h b ≤ 103 then _ else Sum.inr (Sum.inr (Sum.inr (Sum.inr (hB (sB h a j v) b))))))) = _
  rw [h1]
  rfl
theorem hA_up (h : HS) (a j : Nat) (v : Int32) : hA (sA h a j v) a = upd (hA h a) j v := by
  funext i
  rw [hA_sA]
  by_cases e : i = j
  · simp [e, upd]
  · simp [e, upd]
theorem hB_up (h : HS) (a j : Nat) (v : Option Nat) : hB (sB h a j v) a = va_up (hB h a) j v := by
  funext i
  rw [hB_sB]
  by_cases e : i = j
  · simp [e, va_up]
  · simp [e, va_up]
theorem vp_cell_sz (cA : ClassId) (n : Nat) (x : (Nat → Int32) ⊕ (Nat → Int64) ⊕ (Nat → UInt32) ⊕ (Nat → UInt64) ⊕ (Nat → Option Nat)) : (vp_cell cA (n, x)).slots.size = n := by
  rcases x with x | x | x | x | x <;> exact arrV_size _ _ _
theorem RP.arr {X : Ev} {G : GG} {h h' : HS} {H H1 : Heap} {a t : Nat} (hP : RP X G h H) (ht : hT h a = t) (h1 : t ∈ tyT) (g1 : hT h' = hT h) (g2 : hZ h' = hZ h) (g3 : hL h' = hL h) (gn : hN h' = hN h) (gi : hI h' = hI h) (gr : hR h' = hR h) (g4 : ∀ b, b ≠ a → hcell G h' b = hcell G h b)
    (e1 : va_at (gD G) vwCl (a, hcell G h' a) H1) (e2 : H1.size = H.size) (e3 : ∀ q : Nat, q ≠ a → H1[q]? = H[q]?) : RP X G h' H1 := by
  have hgt : 26 < t := by
    simp only [tyT, List.mem_cons, List.not_mem_nil, or_false] at h1
    omega
  have hv : ∀ f b, hval h' f b = hval h f b := fun f b => by unfold hval; rw [gi, gr]
  have c0 := hP.1.2.2.1 a (hE_arr ht h1)
  rw [hcell_arr ht hgt] at c0
  have ht' : hT h' a = t := by rw [g1]; exact ht
  have c1 := e1
  rw [hcell_arr ht' hgt] at c1
  refine ⟨hP.1.put (hE_arr ht h1) e2 (slS_set e2 c0 c1 ?_ e3) e3 g1 g2 g3 e1 g4 (fun f b _ => hv f b) (fun g b _ => by rw [gi]) (fun z => by rw [ht] at z; omega), fun q hq => ?_, by rw [g2]; exact hP.2.2.1, by rw [g3]; exact hP.2.2.2⟩
  · rw [vp_cell_sz, vp_cell_sz, gn]
  · refine hP.2.1 q ?_
    unfold hD at hq ⊢
    rw [g1, g2] at hq
    exact hq
section GRA
variable {X : Ev} {G : GG} {own : String} {cc : ByteArray} {d pc : Nat} {lv : List (Nat × Value)} {st : List Value} {h : HS} {Q : State → Prop}
theorem one_P {G : GG} {h : HS} {H : Heap} {a : Nat} {e : va_E} (h6 : va_at (gD G) vwCl (a, e) H) : va_P (gD G) vwCl [(a, e)] H := by
  intro q x hx
  have : q = 0 := by have := (List.getElem?_eq_some_iff.mp hx).1; simp at this; omega
  subst this
  cases hx
  exact h6
theorem RP.at {X : Ev} {G : GG} {h : HS} {H : Heap} {a t : Nat} (hP : RP X G h H) (ht : hT h a = t) (h1 : t ∈ tyT) : va_at (gD G) vwCl (a, .inl (gAr G t, (hN h a, if t ≤ 103 then .inl (hA h a) else .inr (.inr (.inr (.inr (hB h a))))))) H := by
  have hgt : 26 < t := by
    simp only [tyT, List.mem_cons, List.not_mem_nil, or_false] at h1
    omega
  have c0 := hP.1.2.2.1 a (hE_arr ht h1)
  rw [hcell_arr ht hgt] at c0
  exact c0
theorem gh_iald (C : HC X G own cc d) {a : Nat} {i : Int32} (ht : hT h a = 101) (hin : vp_in i (hN h a)) (hdg : decode cc pc = .ok (.iaload, 1))
    (kk : GH X G h Q (pc + 1) lv (.int (hA h a i.toNatClampNeg) :: st)) : GH X G h Q pc lv (.int i :: .ref a :: st) := by
  intro H locs ls hP hS hl
  exact va_iald C.1.1 C.1.2.1 C.2.1.1 (one_P (h := h) (hP.at ht (by decide))) 0 0 rfl rfl hin hdg (kk H locs ls hP hS hl)
theorem gh_bald (C : HC X G own cc d) {a : Nat} {i : Int32} (ht : hT h a = 102) (hin : vp_in i (hN h a)) (hdg : decode cc pc = .ok (.baload, 1))
    (kk : GH X G h Q (pc + 1) lv (.int (hA h a i.toNatClampNeg) :: st)) : GH X G h Q pc lv (.int i :: .ref a :: st) := by
  intro H locs ls hP hS hl
  exact va_bald C.1.1 C.1.2.1 C.2.1.1 (one_P (h := h) (hP.at ht (by decide))) 0 1 rfl rfl hin hdg (kk H locs ls hP hS hl)
theorem gh_cald (C : HC X G own cc d) {a : Nat} {i : Int32} (ht : hT h a = 103) (hin : vp_in i (hN h a)) (hdg : decode cc pc = .ok (.caload, 1))
    (kk : GH X G h Q (pc + 1) lv (.int (hA h a i.toNatClampNeg) :: st)) : GH X G h Q pc lv (.int i :: .ref a :: st) := by
  intro H locs ls hP hS hl
  exact va_cald C.1.1 C.1.2.1 C.2.1.1 (one_P (h := h) (hP.at ht (by decide))) 0 2 rfl rfl hin hdg (kk H locs ls hP hS hl)
theorem gh_aald (C : HC X G own cc d) {a t t0 : Nat} {E : String} {i : Int32} (ht : hT h a = t) (h1 : t ∈ tyT) (h2 : 103 < t) (hty : (tysL G)[t0]? = some (gAr G t, .object E)) (hin : vp_in i (hN h a)) (hdg : decode cc pc = .ok (.aaload, 1))
    (kk : GH X G h Q (pc + 1) lv (va_rf (hB h a i.toNatClampNeg) :: st)) : GH X G h Q pc lv (.int i :: .ref a :: st) := by
  intro H locs ls hP hS hl
  have c0 := hP.at ht h1
  rw [if_neg (by omega)] at c0
  exact va_aldq C.1.1 C.1.2.1 C.2.1.1 (one_P (h := h) c0) 0 t0 rfl hty hin hdg (kk H locs ls hP hS hl)
theorem gh_len (C : HC X G own cc d) {a t t0 : Nat} {ty : FieldType} (ht : hT h a = t) (h1 : t ∈ tyT) (hty : (tysL G)[t0]? = some (gAr G t, ty)) (hdg : decode cc pc = .ok (.arraylength, 1))
    (kk : GH X G h Q (pc + 1) lv (.int (nI (hN h a)) :: st)) : GH X G h Q pc lv (.ref a :: st) := by
  intro H locs ls hP hS hl
  exact va_alen C.1.1 C.1.2.1 C.2.1.1 (one_P (h := h) (hP.at ht h1)) 0 t0 rfl hty rfl hdg (kk H locs ls hP hS hl)
theorem gh_iast (C : HC X G own cc d) {a : Nat} {i x : Int32} (ht : hT h a = 101) (hin : vp_in i (hN h a)) (hdg : decode cc pc = .ok (.iastore, 1))
    (kk : GH X G (sA h a i.toNatClampNeg (x)) Q (pc + 1) lv st) : GH X G h Q pc lv (.int x :: .int i :: .ref a :: st) := by
  intro H locs ls hP hS hl
  have c0 := hP.at ht (by decide)
  rw [if_pos (by decide)] at c0
  have hAa : ev_A X a := hP.2.1 a (Or.inl (hE_arr ht (by decide)))
  refine W.iast C.1.1 C.1.2.1 c0 ((C.2.1.1.2 0 _ rfl).1 (hN h a) (fun j => .int (hA h a j))) (fun q => by cases q) (by show ¬ (i < 0 ∨ (arrV _ _ _).slots.size ≤ _); rw [arrV_size]; exact hin) rfl rfl hdg fun H1 e z oq => ?_
  refine kk H1 _ ls (hP.arr ht (by decide) rfl rfl rfl rfl rfl rfl (fun b e => hcell_sA e) ?_ z oq) (hS.put z oq hAa) hl
  have ht2 : hT (sA h a i.toNatClampNeg (x)) a = 101 := ht
  rw [hcell_arr ht2 (by decide), if_pos (by decide), hA_up]
  show H1[a]? = some (vp_cell _ _)
  rw [e]
  show some (Cell.setSlot (vp_cell _ (hN h a, Sum.inl (hA h a))) _ _) = some (vp_cell _ (hN h a, _))
  rw [vp_cell_i, vp_cell_i, arrV_store]
  congr 2
  funext q
  by_cases hq : q = i.toNatClampNeg
  · subst hq
    simp [updV, upd, vp_nar]
    try rfl
  · simp [updV, upd, hq]
theorem gh_bast (C : HC X G own cc d) {a : Nat} {i x : Int32} (ht : hT h a = 102) (hin : vp_in i (hN h a)) (hdg : decode cc pc = .ok (.bastore, 1))
    (kk : GH X G (sA h a i.toNatClampNeg (vp_nar .byte x)) Q (pc + 1) lv st) : GH X G h Q pc lv (.int x :: .int i :: .ref a :: st) := by
  intro H locs ls hP hS hl
  have c0 := hP.at ht (by decide)
  rw [if_pos (by decide)] at c0
  have hAa : ev_A X a := hP.2.1 a (Or.inl (hE_arr ht (by decide)))
  refine W.bast C.1.1 C.1.2.1 c0 ((C.2.1.1.2 1 _ rfl).1 (hN h a) (fun j => .int (hA h a j))) (fun q => by cases q) (by show ¬ (i < 0 ∨ (arrV _ _ _).slots.size ≤ _); rw [arrV_size]; exact hin) rfl rfl hdg fun H1 e z oq => ?_
  refine kk H1 _ ls (hP.arr ht (by decide) rfl rfl rfl rfl rfl rfl (fun b e => hcell_sA e) ?_ z oq) (hS.put z oq hAa) hl
  have ht2 : hT (sA h a i.toNatClampNeg (vp_nar .byte x)) a = 102 := ht
  rw [hcell_arr ht2 (by decide), if_pos (by decide), hA_up]
  show H1[a]? = some (vp_cell _ _)
  rw [e]
  show some (Cell.setSlot (vp_cell _ (hN h a, Sum.inl (hA h a))) _ _) = some (vp_cell _ (hN h a, _))
  rw [vp_cell_i, vp_cell_i, arrV_store]
  congr 2
  funext q
  by_cases hq : q = i.toNatClampNeg
  · subst hq
    simp [updV, upd, vp_nar]
    try rfl
  · simp [updV, upd, hq]
theorem gh_cast (C : HC X G own cc d) {a : Nat} {i x : Int32} (ht : hT h a = 103) (hin : vp_in i (hN h a)) (hdg : decode cc pc = .ok (.castore, 1))
    (kk : GH X G (sA h a i.toNatClampNeg (vp_nar .char x)) Q (pc + 1) lv st) : GH X G h Q pc lv (.int x :: .int i :: .ref a :: st) := by
  intro H locs ls hP hS hl
  have c0 := hP.at ht (by decide)
  rw [if_pos (by decide)] at c0
  have hAa : ev_A X a := hP.2.1 a (Or.inl (hE_arr ht (by decide)))
  refine W.cast C.1.1 C.1.2.1 c0 ((C.2.1.1.2 2 _ rfl).1 (hN h a) (fun j => .int (hA h a j))) (fun q => by cases q) (by show ¬ (i < 0 ∨ (arrV _ _ _).slots.size ≤ _); rw [arrV_size]; exact hin) rfl rfl hdg fun H1 e z oq => ?_
  refine kk H1 _ ls (hP.arr ht (by decide) rfl rfl rfl rfl rfl rfl (fun b e => hcell_sA e) ?_ z oq) (hS.put z oq hAa) hl
  have ht2 : hT (sA h a i.toNatClampNeg (vp_nar .char x)) a = 103 := ht
  rw [hcell_arr ht2 (by decide), if_pos (by decide), hA_up]
  show H1[a]? = some (vp_cell _ _)
  rw [e]
  show some (Cell.setSlot (vp_cell _ (hN h a, Sum.inl (hA h a))) _ _) = some (vp_cell _ (hN h a, _))
  rw [vp_cell_i, vp_cell_i, arrV_store]
  congr 2
  funext q
  by_cases hq : q = i.toNatClampNeg
  · subst hq
    simp [updV, upd, vp_nar]
    try rfl
  · simp [updV, upd, hq]
/-- what may be stored in an array over E -/
def hAny (X : Ev) (E : String) (h : HS) (v : Nat) : Prop := ∃ (ci : Nat) (K : String) (T : u_T) (N : Nat), hT h v = ci + 1 ∧ ci < 26 ∧ vwCl[ci]? = some (K, T, N) ∧ (Jvm.Cond.castable K E ∈ lw_tbl ∨ K = E)
theorem hAny.any {E : String} {v : Nat} {H : Heap} (C : HC X G own cc d) (hP : RP X G h H) (ha : hAny X E h v) : va_Any E (ev_s X) H v := by
  obtain ⟨ci, K, T, N, ht, hci, hc, hw⟩ := ha
  have c0 := hP.1.2.2.1 v (hE_obj ht hci)
  rw [hcell_obj ht hci] at c0
  obtain ⟨cell, g1, g2, g3⟩ := va_recv C.2.1.1 (one_P (h := h) c0) (q0 := 0) hc rfl
  obtain ⟨-, hfc, kC, hkC, -⟩ := C.2.1.1.1 ci _ hc
  have e := Option.some.inj (hfc.symm.trans g3)
  refine ⟨cell, g1, g2, ⟨kC, by rw [← e]; exact hkC⟩, fun comp hcomp => ?_⟩
  rcases hw with hw | rfl
  · exact vb_asgC (C.2.1.2.1 _ hw rfl) comp cell.cls hcomp g3
  · have e2 := Option.some.inj (hcomp.symm.trans g3)
    rw [e2]
    have e3 := va_assign (C.2.1.1.1 ci _ hc).2
    rw [e] at e3
    exact e3
theorem gh_aast (C : HC X G own cc d) {a t t0 : Nat} {E : String} {i : Int32} {r : Option Nat} (ht : hT h a = t) (h1 : t ∈ tyT) (h2 : 103 < t) (hty : (tysL G)[t0]? = some (gAr G t, .object E)) (hok : ∀ v, r = some v → hAny X E h v) (hin : vp_in i (hN h a)) (hdg : decode cc pc = .ok (.aastore, 1))
    (kk : GH X G (sB h a i.toNatClampNeg r) Q (pc + 1) lv st) : GH X G h Q pc lv (va_rf r :: .int i :: .ref a :: st) := by
  intro H locs ls hP hS hl
  have c0 := hP.at ht h1
  have hgt : ¬ t ≤ 103 := by omega
  rw [if_neg hgt] at c0
  have hAa : ev_A X a := hP.2.1 a (Or.inl (hE_arr ht h1))
  have fin : ∀ (H1 : Heap) (x : Value), x = va_rf r → H1[a]? = some (Cell.setSlot (vp_cell (gAr G t) (hN h a, .inr (.inr (.inr (.inr (hB h a)))))) i.toNatClampNeg x) → H1.size = H.size → (∀ q : Nat, q ≠ a → H1[q]? = H[q]?) → RP X G (sB h a i.toNatClampNeg r) H1 := by
    intro H1 x hx e z oq
    refine hP.arr ht h1 rfl rfl rfl rfl rfl rfl (fun b e => hcell_sB e) ?_ z oq
    have ht2 : hT (sB h a i.toNatClampNeg r) a = t := ht
    rw [hcell_arr ht2 (by omega), if_neg hgt, hB_up]
    show H1[a]? = some (vp_cell _ _)
    rw [e]
    show some (Cell.setSlot (vp_cell _ (hN h a, _)) _ _) = some (vp_cell _ (hN h a, _))
    rw [vp_cell_q, vp_cell_q, arrV_store]
    congr 2
    funext q
    by_cases hq : q = i.toNatClampNeg
    · subst hq
      simp [updV, va_up, hx]
    · simp [updV, va_up, hq]
  cases r with
  | none =>
    refine va_WaastN (C := E) C.1.1 C.1.2.1 c0 ((C.2.1.1.2 t0 _ hty).1 (hN h a) (fun j => va_rf (hB h a j))) (fun q => by cases q) (by show ¬ (i < 0 ∨ (arrV _ _ _).slots.size ≤ _); rw [arrV_size]; exact hin) rfl rfl hdg fun H1 e z oq => ?_
    exact kk H1 _ ls (fin H1 _ rfl e z oq) (hS.put z oq hAa) hl
  | some v =>
    have hlt : i.toNatClampNeg < hN h a := Nat.not_le.mp fun q => hin (Or.inr q)
    have h0 : ¬ i < 0 := fun q => hin (Or.inl q)
    obtain ⟨cellV, g1, g3, ⟨kC, hkC⟩, hasg⟩ := (hok v rfl).any C hP
    obtain ⟨kA, comp, k1, k2, k3, -⟩ := (C.2.1.1.2 t0 _ hty).2
    obtain ⟨kE, hkE, -⟩ := Vm.findClass_spec k3
    refine W.aast C.1.1 C.1.2.1 c0 (fun q h => by cases h) (fun h => by cases h) k1 k2 rfl hkE ⟨h0, by show _ < (arrV _ _ _).slots.size; rw [arrV_size]; exact hlt⟩ g1 (fun q h => by rw [h] at g3; cases g3) hkC (hasg _ k3) rfl rfl hdg fun H1 e z oq => ?_
    exact kk H1 _ ls (fin H1 _ rfl e z oq) (hS.put z oq hAa) hl
/-! new cells -/
theorem hT_new (h : HS) (t n w b : Nat) : hT (hNew h t n w) b = if b = hZ h then t else hT h b := rfl
theorem hN_new (h : HS) (t n w b : Nat) : hN (hNew h t n w) b = if b = hZ h then n else hN h b := rfl
theorem hI_new (h : HS) (t n w f b : Nat) : hI (hNew h t n w) f b = if b = hZ h then 0 else hI h f b := rfl
theorem hR_new (h : HS) (t n w f b : Nat) : hR (hNew h t n w) f b = if b = hZ h then none else hR h f b := rfl
theorem hval_new {h : HS} {t n w f b : Nat} (e : b ≠ hZ h) : hval (hNew h t n w) f b = hval h f b := by
  unfold hval
  rw [hI_new, hR_new, if_neg e, if_neg e]
theorem hcell_new {G : GG} {h : HS} {t n w b : Nat} (e : b ≠ hZ h) : hcell G (hNew h t n w) b = hcell G h b := by
  have h1 : (fun g => hval (hNew h t n w) g b) = (fun g => hval h g b) := funext fun g => hval_new e
  have h2 : hA (hNew h t n w) b = hA h b := funext fun i => if_neg e
  have h3 : hB (hNew h t n w) b = hB h b := funext fun i => if_neg e
  unfold hcell
  rw [h1, h2, h3, hT_new, hN_new, if_neg e, if_neg e]
theorem RP.new {H H1 : Heap} {t n w : Nat} (hP : RP X G h H) (hA0 : ∀ q, (ev_s X).heap.size ≤ q → ev_A X q) (ht : hE t = true) (h1 : hZ h + 1 ≤ gCC G) (h2 : hL h + w ≤ gSS G) (e2 : H1.size = hZ h + 1) (e4 : slS H1 = slS H + w) (e3 : ∀ q : Nat, q < hZ h → H1[q]? = H[q]?) (e1 : va_at (gD G) vwCl (hZ h, hcell G (hNew h t n w) (hZ h)) H1) (efr : t = 16 ∨ t = 17 → H1[hZ h]? = some ({ cls := (gD G).1 (t - 1), slots := gF G (t - 1), vm := .none } : Cell)) : RP X G (hNew h t n w) H1 := by
  obtain ⟨⟨⟨r1, r2, r3, r4⟩, r5, r6, r7, r8, r9, r10, r11, r12⟩, p2, p3, p4⟩ := hP
  have old : ∀ b, hT h b ≠ 0 → b ≠ hZ h := fun b hb z => by have := r5 b hb; omega
  have hno : ∀ i, t ≠ 200 + i := fun i z => by rw [z, hE_lam] at ht; cases ht
  refine ⟨⟨⟨e2, by rw [e4, r2]; rfl, h1, h2⟩, fun b hb => ?_, fun b hb => ?_, fun b i e hi => ?_, fun b e => ?_, fun b i e hi => ?_, fun k hk => ?_, fun i hi => ?_, fun b hb h0 => ?_⟩, fun q hq => ?_, Nat.le_succ_of_le p3, Nat.le_trans p4 (Nat.le_add_right _ _)⟩
  · rw [hT_new] at hb
    by_cases z : b = hZ h
    · subst z; exact Nat.lt_succ_self _
    · rw [if_neg z] at hb
      exact Nat.lt_succ_of_lt (r5 b hb)
  · by_cases z : b = hZ h
    · subst z; exact e1
    · rw [hT_new, if_neg z] at hb
      rw [hcell_new z]
      refine (r6 b hb).kept (e3 b ?_)
      refine r5 b (fun q => ?_)
      rw [q, hE0] at hb
      cases hb
  · by_cases z : b = hZ h
    · rw [hT_new, if_pos z] at e
      exact absurd e (hno i)
    · rw [hT_new, if_neg z] at e
      obtain ⟨cell, c1, c2, c3, c4⟩ := r7 b i e hi
      exact ⟨cell, by rw [e3 b (r5 b (by omega))]; exact c1, c2, c3, fun k f hf => by rw [hval_new z]; exact c4 k f hf⟩
  · by_cases z : b = hZ h
    · rw [hT_new, if_pos z] at e
      exact absurd e (hno 100)
    · rw [hT_new, if_neg z] at e
      rw [hI_new, if_neg z]
      exact r8 b e
  · by_cases z : b = hZ h
    · rw [hT_new, if_pos z] at e
      exact absurd (e.trans (show 300 + i = 200 + (100 + i) by omega)) (hno (100 + i))
    · rw [hT_new, if_neg z] at e
      exact r9 b i e hi
  · have h3 := r10 k hk
    have z := old (gIc G k) (by rw [h3.1]; decide)
    rw [hT_new, hI_new, if_neg z, if_neg z]
    exact h3
  · have h3 := r11 i hi
    have z := old (gLk G i) (by rw [h3]; omega)
    rw [hT_new, if_neg z]
    exact h3
  · by_cases z : b = hZ h
    · subst z
      rw [hT_new, if_pos rfl] at hb ⊢
      exact efr hb
    · rw [hT_new, if_neg z] at hb ⊢
      rw [hI_new, if_neg z] at h0
      rw [e3 b (r5 b (by omega))]
      exact r12 b hb h0
  · rcases hq with hq | hq
    · by_cases z : q = hZ h
      · subst z; exact hA0 _ p3
      · rw [hT_new, if_neg z] at hq
        exact p2 q (Or.inl hq)
    · exact hA0 q (Nat.le_trans p3 (Nat.le_of_succ_le hq))
theorem gh_new (C : HC X G own cc d) {ci N N0 index : Nat} {K : String} {T : u_T} (hci : ci < 26) (hc : vwCl[ci]? = some (K, T, N)) (hin : ∀ w ∈ u_ws K T N, w ∈ lw_all) (ty0 : Nat → FieldType) (hty : ∀ k, k < N → parseFieldDescriptor (T k).2.2.1 = some (ty0 k)) (hlen : (cF ci).length = N)
    (hdv : ∀ h2 : HS, ∀ b : Nat, (∀ f, hI h2 f b = 0) → (∀ f, hR h2 f b = none) → ∀ k, k < N → defaultValue (ty0 k) = vp_V ((cF ci).map (fun f => hval h2 f b)) k)
    (hw1 : Jvm.Cond.classLink own index K ∈ lw_all) (hw2 : Jvm.Cond.instantiable K N0 ∈ lw_all) (hw3 : Jvm.Cond.initialized K ∈ lw_all) (h1 : hZ h + 1 ≤ gCC G) (h2 : hL h + N0 ≤ gSS G) (hdg : decode cc pc = .ok (.new index, 3))
    (kk : GH X G (hNew h (ci + 1) 0 N0) Q (pc + 3) lv (.ref (hZ h) :: st)) : GH X G h Q pc lv st := by
  intro H locs ls hP hS hl
  have hKn := C.2.1.1.1 ci _ hc
  have hsz := hP.1.1.1
  have hsl := hP.1.1.2.1
  have hb1 := hP.2.2.1
  have hb2 := hP.2.2.2
  refine W.newc C.1.1 C.1.2.1 C.1.2.2.2.1 (C.1.2.2.2.2.1 _ hw1) (C.1.2.2.2.2.1 _ hw2) (C.1.2.2.2.2.1 _ hw3) rfl hdg (by rw [C.2.2.2.1]; dsimp only [hrm]; omega) (by rw [C.2.2.2.1]; dsimp only [hrm]; omega) fun cC kC g1 g2 g3 g4 => ?_
  cases hKn.2.1.symm.trans g1
  rw [hsz]
  generalize hH1 : H.push ({ cls := (gD G).1 ci, slots := kC.instanceTypes.map defaultValue, vm := .none } : Cell) = H1
  have z1 : H1.size = hZ h + 1 := by rw [← hH1, Array.size_push, hsz]
  have e1 : H1[hZ h]? = some (blank ((gD G).1 ci) kC) := by rw [← hH1, ← hsz, Array.getElem?_push_size]; rfl
  have o1 : ∀ q : Nat, q < hZ h → H1[q]? = H[q]? := fun q hq => by rw [← hH1, Array.getElem?_push, if_neg (by omega)]
  have s1 : slS H1 = slS H + N0 := by rw [← hH1, slS_push]; simp [g4]
  have hP1 : RP X G (hNew h (ci + 1) 0 N0) H1 := by
    refine hP.new C.2.2.2.2.1 (by unfold hE; simp; omega) h1 h2 z1 s1 o1 ?_ (fun z => by rw [e1, Nat.add_sub_cancel, C.2.1.2.2.2.2.2.2.2.2 ci (by omega) kC g2]; rfl)
    have ht2 : hT (hNew h (ci + 1) 0 N0) (hZ h) = ci + 1 := by rw [hT_new, if_pos rfl]
    rw [hcell_obj ht2 hci]
    exact ⟨_, hc, (u_born ty0 C.1.2.2.2.2.1 hin hKn g2 e1 hty).to (fun k hk => hdv _ _ (fun f => by rw [hI_new, if_pos rfl]) (fun f => by rw [hR_new, if_pos rfl]) k hk)⟩
  have kk2 := kk H1 locs ls hP1 ⟨Nat.le_trans hS.1 (by omega), fun x q1 q2 => (o1 x (by have := hS.1; omega)).trans (hS.2.1 x q1 q2), hS.2.2⟩ hl
  have y1 : hZ (hNew h (ci + 1) 0 N0) - (ev_s X).heap.size = hZ h - (ev_s X).heap.size + 1 := by show hZ h + 1 - _ = _; omega
  have y2 : hL (hNew h (ci + 1) 0 N0) - slS (ev_s X).heap = hL h - slS (ev_s X).heap + N0 := by show hL h + N0 - _ = _; omega
  rw [y1, y2] at kk2
  exact kk2
theorem gh_newa (C : HC X G own cc d) {t t0 : Nat} {n : Int32} {atype : ArrayType} {ty : FieldType} (h3 : t ∈ tyT ∧ t ≤ 103) (hty : newarray.typeOf atype = ty) (htys : (tysL G)[t0]? = some (gAr G t, ty)) (hnr : ∀ C0, ty ≠ .object C0) (hdf : defaultValue ty = .int 0) (hw : Jvm.Cond.arrayClass (newarray.typeOf atype) ∈ lw_all)
    (hn : ¬ n < 0) (hbytes : n.toNatClampNeg * componentBytes ty ≤ 536870912) (h1 : hZ h + 1 ≤ gCC G) (h2 : hL h + n.toNatClampNeg ≤ gSS G) (hdg : decode cc pc = .ok (.newarray atype, 2))
    (kk : GH X G (hNew h t n.toNatClampNeg n.toNatClampNeg) Q (pc + 2) lv (.ref (hZ h) :: st)) : GH X G h Q pc lv (.int n :: st) := by
  intro H locs ls hP hS hl
  subst hty
  have hsz := hP.1.1.1
  have hsl := hP.1.1.2.1
  have hb1 := hP.2.2.1
  have hb2 := hP.2.2.2
  refine W.newa C.1.1 C.1.2.1 (C.1.2.2.2.2.1 _ hw) rfl hdg rfl hn hbytes (by rw [C.2.2.2.1]; dsimp only [hrm]; omega) (by rw [C.2.2.2.1]; dsimp only [hrm]; omega) fun cA kA comp f1 f2 f3 => ?_
  have hcA : cA = gAr G t := by
    have q1 := (C.2.1.1.2 t0 _ htys).2
    have q2 : (ev_s X).vm.findClass ("[" ++ (newarray.typeOf atype).toString) = some (gAr G t) := by
      unfold va_RA at q1
      split at q1
      · rename_i C0 hC0
        exact absurd hC0 (hnr C0)
      · exact q1
    exact Option.some.inj (f1.symm.trans q2)
  subst hcA
  rw [hsz]
  generalize hH1 : H.push ({ cls := gAr G t, slots := Array.replicate n.toNatClampNeg (defaultValue (newarray.typeOf atype)), vm := .none } : Cell) = H1
  have z1 : H1.size = hZ h + 1 := by rw [← hH1, Array.size_push, hsz]
  have e1 : H1[hZ h]? = some (arrV (gAr G t) n.toNatClampNeg (fun _ => defaultValue (newarray.typeOf atype))) := by rw [← hH1, ← hsz, Array.getElem?_push_size, ← arrV_new]
  have o1 : ∀ q : Nat, q < hZ h → H1[q]? = H[q]? := fun q hq => by rw [← hH1, Array.getElem?_push, if_neg (by omega)]
  have s1 : slS H1 = slS H + n.toNatClampNeg := by rw [← hH1, slS_push]; simp
  have hP1 : RP X G (hNew h t n.toNatClampNeg n.toNatClampNeg) H1 := by
    refine hP.new C.2.2.2.2.1 (by unfold hE; simp [h3.1]) h1 h2 z1 s1 o1 ?_ (fun z => by have h9 := h3.1; simp only [tyT, List.mem_cons, List.not_mem_nil, or_false] at h9; omega)
    have ht2 : hT (hNew h t n.toNatClampNeg n.toNatClampNeg) (hZ h) = t := by rw [hT_new, if_pos rfl]
    have hgt : 26 < t := by
      have := h3.1
      simp only [tyT, List.mem_cons, List.not_mem_nil, or_false] at this
      omega
    rw [hcell_arr ht2 hgt, if_pos h3.2]
    show H1[hZ h]? = some (vp_cell _ _)
    rw [e1, hdf]
    show some _ = some (vp_cell _ (hN _ (hZ h), Sum.inl _))
    rw [vp_cell_i, hN_new, if_pos rfl]
    congr 2
    funext j
    show _ = Value.int (if hZ h = hZ h then 0 else _)
    rw [if_pos rfl]
  have kk2 := kk H1 locs ls hP1 ⟨Nat.le_trans hS.1 (by omega), fun x q1 q2 => (o1 x (by have := hS.1; omega)).trans (hS.2.1 x q1 q2), hS.2.2⟩ hl
  have y1 : hZ (hNew h t n.toNatClampNeg n.toNatClampNeg) - (ev_s X).heap.size = hZ h - (ev_s X).heap.size + 1 := by show hZ h + 1 - _ = _; omega
  have y2 : hL (hNew h t n.toNatClampNeg n.toNatClampNeg) - slS (ev_s X).heap = hL h - slS (ev_s X).heap + n.toNatClampNeg := by show hL h + n.toNatClampNeg - _ = _; omega
  rw [y1, y2] at kk2
  exact kk2
theorem gh_anew (C : HC X G own cc d) {t t0 index : Nat} {n : Int32} {E : String} (h3 : t ∈ tyT ∧ 103 < t) (htys : (tysL G)[t0]? = some (gAr G t, .object E)) (hw : Jvm.Cond.classLink own index E ∈ lw_all) (hw2 : Jvm.Cond.arrayOver (.object E) ∈ lw_tbl)
    (hn : ¬ n < 0) (hbytes : n.toNatClampNeg * 4 ≤ 536870912) (h1 : hZ h + 1 ≤ gCC G) (h2 : hL h + n.toNatClampNeg ≤ gSS G) (hdg : decode cc pc = .ok (.anewarray index, 3))
    (kk : GH X G (hNew h t n.toNatClampNeg n.toNatClampNeg) Q (pc + 3) lv (.ref (hZ h) :: st)) : GH X G h Q pc lv (.int n :: st) := by
  intro H locs ls hP hS hl
  have hsz := hP.1.1.1
  have hsl := hP.1.1.2.1
  have hb1 := hP.2.2.1
  have hb2 := hP.2.2.2
  refine W.anew C.1.1 C.1.2.1 C.1.2.2.2.1 (C.1.2.2.2.2.1 _ hw) (va_AO.use (C.2.1.2.2.1 _ hw2)) rfl hdg rfl hn hbytes (by rw [C.2.2.2.1]; dsimp only [hrm]; omega) (by rw [C.2.2.2.1]; dsimp only [hrm]; omega) fun cA kA comp f1 f2 f3 f4 => ?_
  have hcA : cA = gAr G t := by
    obtain ⟨-, -, -, -, -, q2⟩ := (C.2.1.1.2 t0 _ htys).2
    exact Option.some.inj (f1.symm.trans q2)
  subst hcA
  rw [hsz]
  generalize hH1 : H.push ({ cls := gAr G t, slots := Array.replicate n.toNatClampNeg .null, vm := .none } : Cell) = H1
  have z1 : H1.size = hZ h + 1 := by rw [← hH1, Array.size_push, hsz]
  have e1 : H1[hZ h]? = some (arrV (gAr G t) n.toNatClampNeg (fun _ => .null)) := by rw [← hH1, ← hsz, Array.getElem?_push_size, ← arrV_new]
  have o1 : ∀ q : Nat, q < hZ h → H1[q]? = H[q]? := fun q hq => by rw [← hH1, Array.getElem?_push, if_neg (by omega)]
  have s1 : slS H1 = slS H + n.toNatClampNeg := by rw [← hH1, slS_push]; simp
  have hP1 : RP X G (hNew h t n.toNatClampNeg n.toNatClampNeg) H1 := by
    refine hP.new C.2.2.2.2.1 (by unfold hE; simp [h3.1]) h1 h2 z1 s1 o1 ?_ (fun z => by have h9 := h3.1; simp only [tyT, List.mem_cons, List.not_mem_nil, or_false] at h9; omega)
    have ht2 : hT (hNew h t n.toNatClampNeg n.toNatClampNeg) (hZ h) = t := by rw [hT_new, if_pos rfl]
    rw [hcell_arr ht2 (by omega), if_neg (by omega)]
    show H1[hZ h]? = some (vp_cell _ _)
    rw [e1]
    show some _ = some (vp_cell _ (hN _ (hZ h), _))
    rw [vp_cell_q, hN_new, if_pos rfl]
    congr 2
    funext j
    show _ = va_rf (if hZ h = hZ h then none else _)
    rw [if_pos rfl]
    rfl
  have kk2 := kk H1 locs ls hP1 ⟨Nat.le_trans hS.1 (by omega), fun x q1 q2 => (o1 x (by have := hS.1; omega)).trans (hS.2.1 x q1 q2), hS.2.2⟩ hl
  have y1 : hZ (hNew h t n.toNatClampNeg n.toNatClampNeg) - (ev_s X).heap.size = hZ h - (ev_s X).heap.size + 1 := by show hZ h + 1 - _ = _; omega
  have y2 : hL (hNew h t n.toNatClampNeg n.toNatClampNeg) - slS (ev_s X).heap = hL h - slS (ev_s X).heap + n.toNatClampNeg := by show hL h + n.toNatClampNeg - _ = _; omega
  rw [y1, y2] at kk2
  exact kk2
end GRA
