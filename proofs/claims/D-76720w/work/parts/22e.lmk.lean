/-! THE MAKING of lambdas' objects -/
theorem lk_three {α : Type} {x : Array Nat} {f : Nat → Nat → Nat → Option α} {r : α} (h : Lambda.shapeOf?.match_15 (fun _ => Option α) x f (fun _ => none) = some r) : ∃ a b c, f a b c = some r := by
  rcases x with ⟨L⟩
  match L, h with
  | [], h => cases h
  | [_], h => cases h
  | [_, _], h => cases h
  | [a, b, c], h => exact ⟨a, b, c, h⟩
  | _ :: _ :: _ :: _ :: _, h => cases h
theorem lk_site {cf : ClassFile} {index : Nat} {σ : Lambda.Shape} (h : Lambda.shapeOf? cf index = some σ) :
    ∃ (b nt : Nat) (desc : String) (site : MethodDescriptor), cf.constantPool[index]? = some (.invokeDynamic b nt) ∧ cf.constantPool.nameAndType? nt = some (σ.name, desc) ∧ parseMethodDescriptor desc = some site ∧ site.parameters = σ.captured := by
  unfold Lambda.shapeOf? at h
  split at h
  rotate_left
  · cases h
  next b nt hc =>
  obtain ⟨entries, -, h⟩ := Option.bind_eq_some_iff.mp h
  obtain ⟨bm, -, h⟩ := Option.bind_eq_some_iff.mp h
  split at h
  rotate_left
  · cases h
  obtain ⟨_, -, h⟩ := Option.bind_eq_some_iff.mp h
  obtain ⟨a0, a1, a2, h⟩ := lk_three h
  split at h
  rotate_left
  · cases h
  split at h
  rotate_left
  · cases h
  split at h
  rotate_left
  · cases h
  obtain ⟨⟨name, desc⟩, hnt, h⟩ := Option.bind_eq_some_iff.mp h
  obtain ⟨site, hsite, h⟩ := Option.bind_eq_some_iff.mp h
  split at h
  rotate_left
  · cases h
  obtain ⟨⟨implClass, implName, implDesc, implItf⟩, -, h⟩ := Option.bind_eq_some_iff.mp h
  obtain ⟨x1, -, h⟩ := Option.bind_eq_some_iff.mp h
  obtain ⟨x2, -, h⟩ := Option.bind_eq_some_iff.mp h
  obtain ⟨x3, -, h⟩ := Option.bind_eq_some_iff.mp h
  obtain ⟨x4, -, h⟩ := Option.bind_eq_some_iff.mp h
  obtain ⟨x5, -, h⟩ := Option.bind_eq_some_iff.mp h
  cases h
  exact ⟨b, nt, desc, site, hc, hnt, hsite, rfl⟩
theorem RP.lam {X : Ev} {G : GG} {h h' : HS} {H H1 : Heap} {i k : Nat} (hP : RP X G h H) (hA0 : ∀ q, (ev_s X).heap.size ≤ q → ev_A X q) (hi : i < 100) (h1 : hZ h + 1 ≤ gCC G) (h2 : hL h + k ≤ gSS G) (z1 : H1.size = hZ h + 1) (s1 : slS H1 = slS H + k) (e3 : ∀ q : Nat, q < hZ h → H1[q]? = H[q]?)
    (ht : hT h' = fun b => if b = hZ h then 200 + i else hT h b) (hz : hZ h' = hZ h + 1) (hl : hL h' = hL h + k) (hc : ∀ b, b ≠ hZ h → hcell G h' b = hcell G h b) (hv : ∀ f b, b ≠ hZ h → hval h' f b = hval h f b) (hI2 : ∀ g b, b ≠ hZ h → hI h' g b = hI h g b) (hcl : lamAt G h' (hZ h) i H1) : RP X G h' H1 := by
  obtain ⟨⟨⟨r1, r2, r3, r4⟩, r5, r6, r7, r8, r9, r10, r11, r12⟩, p2, p3, p4⟩ := hP
  have old : ∀ b, hT h b ≠ 0 → b ≠ hZ h := fun b hb z => by have := r5 b hb; omega
  have htn : ∀ b, b ≠ hZ h → hT h' b = hT h b := fun b hb => by rw [ht]; exact if_neg hb
  have hts : hT h' (hZ h) = 200 + i := by rw [ht]; exact if_pos rfl
  refine ⟨⟨⟨by rw [z1, hz], by rw [s1, r2, hl], by rw [hz]; exact h1, by rw [hl]; exact h2⟩, fun b hb => ?_, fun b hb => ?_, fun b j e hj => ?_, fun b e => ?_, fun b j e hj => ?_, fun j hj => ?_, fun j hj => ?_, fun b hb h0 => ?_⟩, fun q hq => ?_, by rw [hz]; omega, by rw [hl]; omega⟩
  · rw [hz]
    by_cases z : b = hZ h
    · omega
    · rw [htn b z] at hb
      exact Nat.lt_succ_of_lt (r5 b hb)
  · by_cases z : b = hZ h
    · rw [z, hts, hE_lam] at hb
      cases hb
    · rw [htn b z] at hb
      rw [hc b z]
      refine (r6 b hb).kept (e3 b (r5 b (fun q => ?_)))
      rw [q, hE0] at hb
      cases hb
  · by_cases z : b = hZ h
    · rw [z, hts] at e
      have e2 : j = i := by omega
      subst e2
      rw [z]
      exact hcl
    · rw [htn b z] at e
      obtain ⟨cell, c1, c2, c3, c4⟩ := r7 b j e hj
      exact ⟨cell, by rw [e3 b (r5 b (by omega))]; exact c1, c2, c3, fun k f hf => by rw [hv f b z]; exact c4 k f hf⟩
  · by_cases z : b = hZ h
    · rw [z, hts] at e
      omega
    · rw [htn b z] at e
      rw [hI2 _ b z]
      exact r8 b e
  · by_cases z : b = hZ h
    · rw [z, hts] at e
      omega
    · rw [htn b z] at e
      exact r9 b j e hj
  · have h3 := r10 j hj
    have z := old (gIc G j) (by rw [h3.1]; decide)
    rw [htn _ z, hI2 _ _ z]
    exact h3
  · have h3 := r11 j hj
    have z := old (gLk G j) (by rw [h3]; omega)
    rw [htn _ z]
    exact h3
  · by_cases z : b = hZ h
    · rw [z, hts] at hb
      omega
    · rw [htn b z] at hb ⊢
      rw [hI2 _ b z] at h0
      rw [e3 b (r5 b (by omega))]
      exact r12 b hb h0
  · rcases hq with hq | hq
    · by_cases z : q = hZ h
      · subst z; exact hA0 _ p3
      · rw [htn q z] at hq
        exact p2 q (Or.inl hq)
    · rw [hz] at hq
      exact hA0 q (Nat.le_trans p3 (Nat.le_of_succ_le hq))
section LMK
variable {X : Ev} {G : GG} {own : String} {cc : ByteArray} {d pc : Nat} {lv : List (Nat × Value)} {rest vals : List Value} {h : HS} {Q0 : State → Prop}
theorem gh_lamC {i index : Nat} {w : Jvm.Cond} (C : HC X G own cc d) (hmem : (i, w) ∈ siteL) (hi : i ∈ siteC) (hcap : (shpOf w).captured = []) (hnd : (ev_s X).methodNamed? (snmOf w) = some (ev_m X)) (hpc : pc = spcOf w) (hc : (rest.map fun v => v.category).sum ≤ 8) (hdg : decode cc pc = .ok (.invokedynamic index, 5))
    (kk : ∀ a : Nat, hT h a = 300 + i → GH X G h Q0 (pc + 5) lv (.ref a :: rest)) : GH X G h Q0 pc lv rest := by
  intro H locs ls hP hS hl
  have h0 : 0 < i ∧ i ∈ [1, 4, 5, 11] := ⟨by simp only [siteC, List.mem_cons, List.not_mem_nil, or_false] at hi; omega, hi⟩
  have hk := kk (gLk G i) (hP.1.2.2.2.2.2.2.2.1 i h0.2) H locs ls hP hS hl
  intro T hT Z
  obtain ⟨t, st, q⟩ := hk T hT Z
  obtain ⟨mD, kD, cfD, i0, p0, lk, hmD, hkD, -, -, hfind, -, -, hl9⟩ := lsP_at (C.2.1.2.2.2.2.2.1 _ hmem)
  cases hnd.symm.trans hmD
  rcases hl9 with ⟨a, e1, e2, -⟩ | ⟨-, -, e3⟩
  · rw [if_pos hi] at e2
    cases e2
    subst e1
    subst hpc
    refine ⟨t, Z.lambdaConstant C.1.1 (g := F0 (ev_m X) (spcOf w) ls rest) rfl (by rw [C.1.2.2.1]; exact hl.1) (by rw [C.1.2.1]; exact hdg) hkD hfind ?_ st, q⟩
    rw [C.2.2.2.1, Z.admits.platform]
    have hz := lv_room (m := ev_m X) (pc := spcOf w) (ls := ls) (rest := rest) hc
    show 2 * (F0 (ev_m X) (spcOf w) ls rest).monitorRoom + (rest.map fun v => v.category).sum + 3072 ≤ 64 * d + 10304
    omega
  · exact (e3 hcap).elim
theorem gh_lamM {i index k : Nat} {w : Jvm.Cond} {dn : String} {bytes : ByteArray} {maxL : Nat} {ret : Option FieldType} {tys : List FieldType} {fs : List Nat} {mi ci nt : Nat} {h' : HS} (C : HC X G own cc d) (hmem : (i, w) ∈ siteL) (hi : i ∉ siteC ∧ i < 100) (K : LK (shpOf w) dn bytes maxL ret tys fs mi ci nt) (hdn : (snmOf w).cls = dn) (hcap : (shpOf w).captured ≠ [])
    (hnd : (ev_s X).methodNamed? (snmOf w) = some (ev_m X)) (hpc : pc = spcOf w ∧ index = sixOf w) (hty : (shpOf w).captured = tys) (hvl : vals.length = k ∧ tys.length = k) (hnar : (tys.zip vals).map (fun (t, v) => narrow t v) = vals) (hfit : ∀ (j : Nat) (t : FieldType) (v : Value), tys[j]? = some t → vals[j]? = some v → fits t v = true)
    (h1 : hZ h + 1 ≤ gCC G) (h2 : hL h + k ≤ gSS G) (hc : (rest.map fun v => v.category).sum ≤ 8 ∧ (vals.map fun v => v.category).sum ≤ 8) (hdg : decode cc pc = .ok (.invokedynamic index, 5))
    (ht : hT h' = fun b => if b = hZ h then 200 + i else hT h b) (hz : hZ h' = hZ h + 1) (hl : hL h' = hL h + k) (hcc : ∀ b, b ≠ hZ h → hcell G h' b = hcell G h b) (hv : ∀ f b, b ≠ hZ h → hval h' f b = hval h f b) (hI2 : ∀ g b, b ≠ hZ h → hI h' g b = hI h g b) (hcl : ∀ (k f : Nat), (lF i)[k]? = some f → vals[k]? = some (hval h' f (hZ h)))
    (kk : GH X G h' Q0 (pc + 5) lv (.ref (hZ h) :: rest)) : GH X G h Q0 pc lv (vals.reverse ++ rest) := by
  intro H locs ls hP hS hl9
  have hsz := hP.1.1.1
  have hsl := hP.1.1.2.1
  have hb1 := hP.2.2.1
  have hb2 := hP.2.2.2
  intro T hT Z
  obtain ⟨mD, kD, cfD, i0, p0, lk, hmD, hkD, hcfD, hshp, hfind, hmade, -, hl8⟩ := lsP_at (C.2.1.2.2.2.2.2.1 _ hmem)
  cases hnd.symm.trans hmD
  obtain ⟨kD', hkD', hnameD⟩ := className_of_methodNamed hmD
  cases hkD.symm.trans hkD'
  rw [hdn] at hnameD
  rcases hl8 with ⟨a, -, e2, -⟩ | ⟨e1, -, -⟩
  · rw [if_neg hi.1] at e2
    cases e2
  subst e1
  obtain ⟨hpc1, hpc2⟩ := hpc
  subst hpc1
  subst hpc2
  obtain ⟨kc, tk, file, methk, ck, toy, t9, ⟨hk, -, -, -⟩, -, -, -, -, hit⟩ := lm_facts K hkD hnameD (obj0 C.1 (Vm.Alike.refl _)) hmade
  obtain ⟨-, kc2, -, -, -, -, -, -, -, -, -, -, -, -, hk2, -, -, -, -, -, -, -, -, -, -, -, ⟨-, hkind, -⟩, -⟩ := Lambda.isMade_spec hmade
  cases hk.symm.trans hk2
  obtain ⟨bsm, nt9, desc, site, s1, s2, s3, s4⟩ := lk_site hshp
  have e0 : (kc.instanceTypes.toList.zip vals).map (fun (t, v) => narrow t v) = vals := by rw [hit]; exact hnar
  obtain ⟨X1, st1⟩ := Z.lambdaMakes C.1.1 (g := F0 (ev_m X) (spcOf w) ls (vals.reverse ++ rest)) rfl (by rw [C.1.2.2.1]; exact hl9.1) (by rw [C.1.2.1]; exact hdg) (vals := vals) (rest := rest) hkD hfind hcfD s1 s2 (ClassFile.parseLong_of_parse s3) (by rw [s4, hty, hvl.1, hvl.2]) rfl hk
    (by
      rw [C.2.2.2.1, Z.admits.platform]
      have hz := lv_room (m := ev_m X) (pc := spcOf w) (ls := ls) (rest := rest) hc.1
      show 2 * (F0 (ev_m X) (spcOf w) ls rest).monitorRoom + ((vals.reverse ++ rest).map fun v => v.category).sum + 3072 ≤ 64 * d + 10304
      rw [List.map_append, List.sum_append, List.map_reverse, List.sum_reverse]
      omega)
    (by rw [C.2.2.2.1]; dsimp only [hrm]; omega) (by rw [C.2.2.2.1, e0, hvl.1]; dsimp only [hrm]; omega)
    (fun j v hj => by
      rw [e0, List.getElem?_toArray] at hj
      have hlt : j < tys.length := by rw [hvl.2, ← hvl.1]; exact (List.getElem?_eq_some_iff.mp hj).1
      have hj2 : kc.instanceTypes[j]? = some tys[j] := by
        have e9 := congrArg (fun l : List FieldType => l[j]?) hit
        rw [show kc.instanceTypes.toList[j]? = kc.instanceTypes[j]? from Array.getElem?_toList] at e9
        rw [e9, List.getElem?_eq_getElem hlt]
      simp only [State.fitsSlot, State.slotType?, hk, Option.bind_eq_bind, Option.bind_some, hkind, hj2]
      exact hfit j _ v (List.getElem?_eq_getElem hlt) hj)
  rw [e0] at X1 st1
  have hsz2 : vals.toArray.size = k := by simpa using hvl.1
  rw [hsz2] at X1
  obtain ⟨H1, hH1⟩ : ∃ z : Heap, z = H.push ({ cls := gLam G i, slots := vals.toArray, vm := .none } : Cell) := ⟨_, rfl⟩
  have z1 : H1.size = hZ h + 1 := by rw [hH1, Array.size_push, hsz]
  have e1 : H1[hZ h]? = some ({ cls := gLam G i, slots := vals.toArray, vm := .none } : Cell) := by rw [hH1, ← hsz, Array.getElem?_push_size]
  have o1 : ∀ q : Nat, q < hZ h → H1[q]? = H[q]? := fun q hq => by rw [hH1, Array.getElem?_push, if_neg (by omega)]
  have s1 : slS H1 = slS H + k := by rw [hH1, slS_push]; simp [hvl.1]
  have hP1 : RP X G h' H1 := hP.lam C.2.2.2.2.1 hi.2 h1 h2 z1 s1 o1 ht hz hl hcc hv hI2 ⟨_, e1, rfl, rfl, fun k f hf => by
    show (vals.toArray)[k]? = _
    rw [List.getElem?_toArray]
    exact hcl k f hf⟩
  have kk2 := kk H1 locs ls hP1 ⟨Nat.le_trans hS.1 (by omega), fun x q1 q2 => (o1 x (by have := hS.1; omega)).trans (hS.2.1 x q1 q2), hS.2.2⟩ hl9
  have y1 : hZ h' - (ev_s X).heap.size = hZ h - (ev_s X).heap.size + 1 := by rw [hz]; omega
  have y2 : hL h' - slS (ev_s X).heap = hL h - slS (ev_s X).heap + k := by rw [hl]; omega
  rw [y1, y2] at kk2
  have hTz : T.heap.size = hZ h := by rw [hT]; exact hsz
  obtain ⟨t, st, q⟩ := kk2 (T.pushCell { cls := gLam G i, slots := vals.toArray, vm := .none }) (by rw [hH1, ← hT]; rfl) X1
  refine ⟨t, st1 t ?_, q⟩
  rw [hTz]
  exact st
end LMK
