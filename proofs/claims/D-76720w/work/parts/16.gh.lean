/-! THE COMPONENT'S HEAP, abstractly: tags, lengths, int and reference fields by (field, address), arrays by (address, place), size, slots in all -/
abbrev HS : Type := (Nat → Nat) × (Nat → Nat) × (Nat → Nat → Int32) × (Nat → Nat → Option Nat) × (Nat → Nat → Int32) × (Nat → Nat → Option Nat) × Nat × Nat
def hT (h : HS) (a : Nat) : Nat := h.1 a
def hN (h : HS) (a : Nat) : Nat := h.2.1 a
def hI (h : HS) (f a : Nat) : Int32 := h.2.2.1 f a
def hR (h : HS) (f a : Nat) : Option Nat := h.2.2.2.1 f a
def hA (h : HS) (a j : Nat) : Int32 := h.2.2.2.2.1 a j
def hB (h : HS) (a j : Nat) : Option Nat := h.2.2.2.2.2.1 a j
def hZ (h : HS) : Nat := h.2.2.2.2.2.2.1
def hL (h : HS) : Nat := h.2.2.2.2.2.2.2
def sI (h : HS) (f a : Nat) (v : Int32) : HS := (h.1, h.2.1, (fun g b => if g = f ∧ b = a then v else hI h g b), h.2.2.2)
def sR (h : HS) (f a : Nat) (v : Option Nat) : HS := (h.1, h.2.1, h.2.2.1, (fun g b => if g = f ∧ b = a then v else hR h g b), h.2.2.2.2)
def sA (h : HS) (a j : Nat) (v : Int32) : HS := (h.1, h.2.1, h.2.2.1, h.2.2.2.1, (fun b i => if b = a ∧ i = j then v else hA h b i), h.2.2.2.2.2)
def sB (h : HS) (a j : Nat) (v : Option Nat) : HS := (h.1, h.2.1, h.2.2.1, h.2.2.2.1, h.2.2.2.2.1, (fun b i => if b = a ∧ i = j then v else hB h b i), h.2.2.2.2.2.2)
/-- a new cell of tag t at the heap's end: all its fields and places are 0 or null; n: an array's length; w: its slots -/
def hNew (h : HS) (t n w : Nat) : HS := ((fun b => if b = hZ h then t else hT h b), (fun b => if b = hZ h then n else hN h b), (fun g b => if b = hZ h then 0 else hI h g b), (fun g b => if b = hZ h then none else hR h g b), (fun b i => if b = hZ h then 0 else hA h b i), (fun b i => if b = hZ h then none else hB h b i), hZ h + 1, hL h + w)
/-- new cells that nobody looks at -/
def hSz (h : HS) (z l : Nat) : HS := (h.1, h.2.1, h.2.2.1, h.2.2.2.1, h.2.2.2.2.1, h.2.2.2.2.2.1, z, l)
def hval (h : HS) (f a : Nat) : Value := if fK f = 1 then va_rf (hR h f a) else if fK f = 2 then .float (hI h f a).toUInt32 else .int (hI h f a)
/-- the constants of a run: classes' numbers and slots, array classes, lambda classes, the objects of lambdas that capture nothing, the Integers' cache, HashSet's PRESENT, the room's ends -/
abbrev GG : Type := va_G × (Nat → ClassId) × (Nat → ClassId) × (Nat → Nat) × (Nat → Nat) × Nat × (Nat → Array Value) × Nat × Nat
def gD (G : GG) : va_G := G.1
def gAr (G : GG) : Nat → ClassId := G.2.1
def gLam (G : GG) : Nat → ClassId := G.2.2.1
def gLk (G : GG) : Nat → Nat := G.2.2.2.1
def gIc (G : GG) : Nat → Nat := G.2.2.2.2.1
def gPr (G : GG) : Nat := G.2.2.2.2.2.1
/-- the slots of a new object of the classes of exceptions, as they are born -/
def gF (G : GG) : Nat → Array Value := G.2.2.2.2.2.2.1
def gCC (G : GG) : Nat := G.2.2.2.2.2.2.2.1
def gSS (G : GG) : Nat := G.2.2.2.2.2.2.2.2
/-- the mark of an exception whose constructor has begun -/
abbrev fFR : Nat := 98
def frAt (G : GG) (h : HS) (H : Heap) : Prop := ∀ a, hT h a = 16 ∨ hT h a = 17 → hI h fFR a = 0 → H[a]? = some ({ cls := (gD G).1 (hT h a - 1), slots := gF G (hT h a - 1), vm := .none } : Cell)
def hE (t : Nat) : Bool := (decide (1 ≤ t) && decide (t ≤ 26)) || decide (t ∈ tyT)
def hcell (G : GG) (h : HS) (a : Nat) : va_E := if hT h a ≤ 26 then .inr (hT h a - 1, (cF (hT h a - 1)).map (fun f => hval h f a)) else .inl (gAr G (hT h a), (hN h a, if hT h a ≤ 103 then .inl (hA h a) else .inr (.inr (.inr (.inr (hB h a))))))
def lamAt (G : GG) (h : HS) (a i : Nat) (H : Heap) : Prop := ∃ cell : Cell, H[a]? = some cell ∧ cell.cls = gLam G i ∧ cell.vm = .none ∧ ∀ (k f : Nat), (lF i)[k]? = some f → cell.slots[k]? = some (hval h f a)
def slS (H : Heap) : Nat := (H.toList.map (fun c => c.slots.size)).sum
def RH (G : GG) (h : HS) (H : Heap) : Prop := (H.size = hZ h ∧ slS H = hL h ∧ hZ h ≤ gCC G ∧ hL h ≤ gSS G) ∧ (∀ a, hT h a ≠ 0 → a < hZ h) ∧ (∀ a, hE (hT h a) = true → va_at (gD G) vwCl (a, hcell G h a) H) ∧ (∀ a i, hT h a = 200 + i → i < 100 → lamAt G h a i H) ∧ (∀ a, hT h a = 300 → ∃ k, k < 256 ∧ a = gIc G k ∧ hI h fINT a = vb_c k) ∧ (∀ a i, hT h a = 300 + i → 0 < i → a = gLk G i) ∧ (∀ k, k < 256 → hT h (gIc G k) = 300 ∧ hI h fINT (gIc G k) = vb_c k) ∧ (∀ i, i ∈ [1, 4, 5, 11] → hT h (gLk G i) = 300 + i) ∧ frAt G h H
/-- the cells that may change -/
def hD (h : HS) (q : Nat) : Prop := hE (hT h q) = true ∨ hZ h ≤ q
def RP (X : Ev) (G : GG) (h : HS) (H : Heap) : Prop := RH G h H ∧ (∀ q, hD h q → ev_A X q) ∧ (ev_s X).heap.size ≤ hZ h ∧ slS (ev_s X).heap ≤ hL h
def GH (X : Ev) (G : GG) (h : HS) (Q : State → Prop) (pc : Nat) (lv : List (Nat × Value)) (st : List Value) : Prop := GK X (RP X G h) (hZ h - (ev_s X).heap.size) (hL h - slS (ev_s X).heap) Q pc lv st
theorem slS_same {H H1 : Heap} (hz : H1.size = H.size) (hs : ∀ q : Nat, H1[q]?.map (fun c => c.slots.size) = H[q]?.map (fun c => c.slots.size)) : slS H1 = slS H := by
  unfold slS
  congr 1
  apply List.ext_getElem?
  intro i
  rw [List.getElem?_map, List.getElem?_map, Array.getElem?_toList, Array.getElem?_toList]
  exact hs i
theorem slS_push (H : Heap) (c : Cell) : slS (H.push c) = slS H + c.slots.size := by simp [slS]
theorem slS_set {H H1 : Heap} {a : Nat} {c c1 : Cell} (hz : H1.size = H.size) (h1 : H[a]? = some c) (h2 : H1[a]? = some c1) (hs : c1.slots.size = c.slots.size) (ho : ∀ q : Nat, q ≠ a → H1[q]? = H[q]?) : slS H1 = slS H := by
  refine slS_same hz (fun q => ?_)
  by_cases e : q = a
  · subst e
    rw [h1, h2]
    simp [hs]
  · rw [ho q e]
theorem setSlot_sz (c : Cell) (i : Nat) (v : Value) : (c.setSlot i v).slots.size = c.slots.size := by simp [Cell.setSlot]
theorem hE0 : hE 0 = false := by decide
theorem hE_lam {i : Nat} : hE (200 + i) = false := by
  unfold hE tyT
  simp
  omega
theorem RH.put {G : GG} {h h' : HS} {H H1 : Heap} {a : Nat} (r : RH G h H) (he : hE (hT h a) = true) (hz : H1.size = H.size) (hs : slS H1 = slS H) (ho : ∀ q : Nat, q ≠ a → H1[q]? = H[q]?) (ht : hT h' = hT h) (hzz : hZ h' = hZ h) (hll : hL h' = hL h) (hc : va_at (gD G) vwCl (a, hcell G h' a) H1)
    (hk : ∀ b, b ≠ a → hcell G h' b = hcell G h b) (hv : ∀ f b, b ≠ a → hval h' f b = hval h f b) (hi : ∀ g b, b ≠ a → hI h' g b = hI h g b) (hfr : hT h a = 16 ∨ hT h a = 17 → hI h' fFR a ≠ 0) : RH G h' H1 := by
  obtain ⟨⟨r1, r2, r3, r4⟩, r5, r6, r7, r8, r9, r10, r11, r12⟩ := r
  have hna : ∀ b j, hT h b = 200 + j → b ≠ a := by
    intro b j e z
    subst z
    rw [e, hE_lam] at he
    cases he
  refine ⟨⟨by rw [hz, hzz]; exact r1, by rw [hs, hll]; exact r2, by rw [hzz]; exact r3, by rw [hll]; exact r4⟩, fun b hb => by rw [hzz]; rw [ht] at hb; exact r5 b hb, fun b hb => ?_, fun b i e hi2 => ?_, fun b e => ?_, fun b i e => by rw [ht] at e; exact r9 b i e, fun k hk => ?_, fun i hi3 => by rw [ht]; exact r11 i hi3, fun b hb h0 => ?_⟩
  · by_cases e : b = a
    · subst e; exact hc
    · rw [hk b e]
      rw [ht] at hb
      exact (r6 b hb).kept (ho b e)
  · rw [ht] at e
    obtain ⟨cell, c1, c2, c3, c4⟩ := r7 b i e hi2
    exact ⟨cell, by rw [ho b (hna b i e)]; exact c1, c2, c3, fun k f hf => by rw [hv f b (hna b i e)]; exact c4 k f hf⟩
  · rw [ht] at e
    rw [hi _ b (hna b 100 e)]
    exact r8 b e
  · rw [ht, hi _ _ (hna _ 100 (r10 k hk).1)]
    exact r10 k hk
  · rw [ht] at hb ⊢
    by_cases e : b = a
    · subst e; exact (hfr hb h0).elim
    · rw [ho b e]
      rw [hi _ b e] at h0
      exact r12 b hb h0
/-! reading behind writing -/
theorem hI_sI (h : HS) (f a : Nat) (v : Int32) (g b : Nat) : hI (sI h f a v) g b = if g = f ∧ b = a then v else hI h g b := rfl
theorem hR_sR (h : HS) (f a : Nat) (v : Option Nat) (g b : Nat) : hR (sR h f a v) g b = if g = f ∧ b = a then v else hR h g b := rfl
theorem hA_sA (h : HS) (a j : Nat) (v : Int32) (b i : Nat) : hA (sA h a j v) b i = if b = a ∧ i = j then v else hA h b i := rfl
theorem hB_sB (h : HS) (a j : Nat) (v : Option Nat) (b i : Nat) : hB (sB h a j v) b i = if b = a ∧ i = j then v else hB h b i := rfl
theorem hval_sI {h : HS} {f a : Nat} {v : Int32} {g b : Nat} (e : ¬ (g = f ∧ b = a)) : hval (sI h f a v) g b = hval h g b := by
  have h2 : hI (sI h f a v) g b = hI h g b := by rw [hI_sI, if_neg e]
  have h1 : hR (sI h f a v) g b = hR h g b := rfl
  unfold hval
  rw [h1, h2]
theorem hval_sR {h : HS} {f a : Nat} {v : Option Nat} {g b : Nat} (e : ¬ (g = f ∧ b = a)) : hval (sR h f a v) g b = hval h g b := by
  have h2 : hR (sR h f a v) g b = hR h g b := by rw [hR_sR, if_neg e]
  have h1 : hI (sR h f a v) g b = hI h g b := rfl
  unfold hval
  rw [h1, h2]
theorem hcell_sI {G : GG} {h : HS} {f a : Nat} {v : Int32} {b : Nat} (e : b ≠ a) : hcell G (sI h f a v) b = hcell G h b := by
  have h1 : (fun g => hval (sI h f a v) g b) = (fun g => hval h g b) := funext fun g => hval_sI (fun z => e z.2)
  show (if hT h b ≤ 26 then _ else _) = _
  rw [h1]
  rfl
theorem hcell_sR {G : GG} {h : HS} {f a : Nat} {v : Option Nat} {b : Nat} (e : b ≠ a) : hcell G (sR h f a v) b = hcell G h b := by
  have h1 : (fun g => hval (sR h f a v) g b) = (fun g => hval h g b) := funext fun g => hval_sR (fun z => e z.2)
  show (if hT h b ≤ 26 then _ else _) = _
  rw [h1]
  rfl
theorem hcell_obj {G : GG} {h : HS} {a ci : Nat} (ht : hT h a = ci + 1) (hc : ci < 26) : hcell G h a = .inr (ci, (cF ci).map (fun f => hval h f a)) := by
  unfold hcell
  rw [ht, if_pos (by omega), Nat.add_sub_cancel]
theorem hE_obj {h : HS} {a ci : Nat} (ht : hT h a = ci + 1) (hc : ci < 26) : hE (hT h a) = true := by
  rw [ht]
  unfold hE
  simp
  omega
theorem cF_nd : ∀ ci, ci < 26 → (cF ci).Nodup := by decide
theorem cF_set {ci k f : Nat} (hc : ci < 26) (hk : (cF ci)[k]? = some f) (V V' : Nat → Value) (h1 : ∀ g, g ≠ f → V' g = V g) : ((cF ci).map V).set k (V' f) = (cF ci).map V' := by
  apply List.ext_getElem?
  intro j
  have hlt := (List.getElem?_eq_some_iff.mp hk).1
  by_cases e : k = j
  · subst e
    rw [List.getElem?_set_self (by simpa using hlt), List.getElem?_map, hk]
    rfl
  · rw [List.getElem?_set_ne e, List.getElem?_map, List.getElem?_map]
    cases hj : (cF ci)[j]? with
    | none => rfl
    | some g =>
      have hne : g ≠ f := fun z => e ((List.getElem?_inj hlt (cF_nd ci hc)).mp (by rw [hk, hj, z]))
      simp [h1 g hne]
