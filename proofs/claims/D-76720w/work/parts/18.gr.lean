/-! ROWS of the component's walks: fields, arrays -/
section GRS
variable {X : Ev} {G : GG} {own : String} {cc : ByteArray} {d pc : Nat} {lv : List (Nat × Value)} {st : List Value} {h : HS} {Q : State → Prop}
theorem gh_get (C : HC X G own cc d) {ci k f a N index : Nat} {K ref : String} {T : u_T} {v : Value} (ht : hT h a = ci + 1) (hci : ci < 26) (hc : vwCl[ci]? = some (K, T, N)) (hin : ∀ w ∈ u_ws K T N, w ∈ lw_all) (hk : k < N) (hf : (cF ci)[k]? = some f)
    (hw : Jvm.Cond.fieldLink own index ref (T k).2.1 (T k).2.2.1 ∈ lw_all) (hsm : ∀ x, (ev_s X).fieldFound? (T k).1 (T k).2.1 (T k).2.2.1 = some x → (ev_s X).fieldFound? ref (T k).2.1 (T k).2.2.1 = some x) (hv : hval h f a = v) (hdg : decode cc pc = .ok (.getfield index, 3))
    (kk : GH X G h Q (pc + 3) lv (v :: st)) : GH X G h Q pc lv (.ref a :: st) := by
  intro H locs ls hP hS hl
  have h6 := hP.1.2.2.1 a (hE_obj ht hci)
  rw [hcell_obj ht hci] at h6
  have hP1 : va_P (gD G) vwCl [(a, .inr (ci, (cF ci).map (fun f => hval h f a)))] H := by
    intro q x hx
    have : q = 0 := by have := (List.getElem?_eq_some_iff.mp hx).1; simp at this; omega
    subst this
    cases hx
    exact h6
  exact va_get C.1.1 C.1.2.1 C.1.2.2.2.2.1 hin C.1.2.2.2.1 C.2.1.1 hP1 0 rfl hc k hk (C.1.2.2.2.2.1 _ hw) hsm (v := v) (by rw [List.getElem?_map, hf, ← hv]; rfl) hdg (kk H locs ls hP hS hl)
theorem gh_getN (C : HC X G own cc d) {ci k f a N index : Nat} {K ref host : String} {T : u_T} {v : Value} (ht : hT h a = ci + 1) (hci : ci < 26) (hc : vwCl[ci]? = some (K, T, N)) (hin : ∀ w ∈ u_ws K T N, w ∈ lw_all) (hk : k < N) (hf : (cF ci)[k]? = some f)
    (hw : Jvm.Cond.fieldLinkNest own index ref (T k).2.1 (T k).2.2.1 host ∈ lw_tbl) (hsm : ∀ x, (ev_s X).fieldFound? (T k).1 (T k).2.1 (T k).2.2.1 = some x → (ev_s X).fieldFound? ref (T k).2.1 (T k).2.2.1 = some x) (hv : hval h f a = v) (hdg : decode cc pc = .ok (.getfield index, 3))
    (kk : GH X G h Q (pc + 3) lv (v :: st)) : GH X G h Q pc lv (.ref a :: st) := by
  intro H locs ls hP hS hl
  have h6 := hP.1.2.2.1 a (hE_obj ht hci)
  rw [hcell_obj ht hci] at h6
  have hP1 : va_P (gD G) vwCl [(a, .inr (ci, (cF ci).map (fun f => hval h f a)))] H := by
    intro q x hx
    have : q = 0 := by have := (List.getElem?_eq_some_iff.mp hx).1; simp at this; omega
    subst this
    cases hx
    exact h6
  exact va_getN C.1.1 C.1.2.1 C.1.2.2.2.2.1 hin C.1.2.2.2.1 C.2.1.1 hP1 0 rfl hc k hk (va_Nw.use rfl (C.2.1.2.1 _ hw rfl)) hsm (v := v) (by rw [List.getElem?_map, hf, ← hv]; rfl) hdg (kk H locs ls hP hS hl)
/-- what a store into field f of a leaves alone -/
def hSet (G : GG) (h h' : HS) (f a : Nat) (v : Value) : Prop := hT h' = hT h ∧ hZ h' = hZ h ∧ hL h' = hL h ∧ (∀ b, b ≠ a → hcell G h' b = hcell G h b) ∧ (∀ g b, ¬ (g = f ∧ b = a) → hval h' g b = hval h g b) ∧ (∀ g b, ¬ (g = f ∧ b = a) → hI h' g b = hI h g b) ∧ hval h' f a = v
theorem hSet_I {G : GG} {h : HS} {f a : Nat} {x : Int32} (hf : fK f = 0) : hSet G h (sI h f a x) f a (.int x) :=
  ⟨rfl, rfl, rfl, fun b e => hcell_sI e, fun g b e => hval_sI e, fun g b e => by rw [hI_sI, if_neg e], by unfold hval; rw [if_neg (by omega), if_neg (by omega), hI_sI, if_pos ⟨rfl, rfl⟩]⟩
theorem hSet_F {G : GG} {h : HS} {f a : Nat} {x : UInt32} (hf : fK f = 2) : hSet G h (sI h f a x.toInt32) f a (.float x) :=
  ⟨rfl, rfl, rfl, fun b e => hcell_sI e, fun g b e => hval_sI e, fun g b e => by rw [hI_sI, if_neg e], by unfold hval; rw [if_neg (by omega), if_pos hf, hI_sI, if_pos ⟨rfl, rfl⟩]; rfl⟩
theorem hSet_R {G : GG} {h : HS} {f a : Nat} {x : Option Nat} (hf : fK f = 1) : hSet G h (sR h f a x) f a (va_rf x) :=
  ⟨rfl, rfl, rfl, fun b e => hcell_sR e, fun g b e => hval_sR e, fun g b e => rfl, by unfold hval; rw [if_pos hf, hR_sR, if_pos ⟨rfl, rfl⟩]⟩
theorem cF_98 {ci k f : Nat} (hci : ci < 26) (hf : (cF ci)[k]? = some f) : f ≠ 98 := by
  have h : ∀ ci, ci < 26 → ∀ f ∈ cF ci, f ≠ 98 := by decide
  exact h ci hci f (List.mem_of_getElem? hf)
theorem hSet.RP {h h' : HS} {H H1 : Heap} {f a ci k N : Nat} {v : Value} {cell : Cell} {K : String} {T : u_T} (hs : hSet G h h' f a v) (hP : RP X G h H) (ht : hT h a = ci + 1) (hci : ci < 26) (hfr : ci = 15 ∨ ci = 16 → hI h fFR a ≠ 0) (hc : vwCl[ci]? = some (K, T, N)) (hk : k < N) (hf : (cF ci)[k]? = some f)
    (hap : ∀ i j, i < N → j < N → i ≠ j → (gD G).2 ci i ≠ (gD G).2 ci j) (q1 : H[a]? = some cell) (q2 : cell.cls = (gD G).1 ci) (q3 : cell.vm = .none) (q4 : ∀ k, k < N → cell.slots[(gD G).2 ci k]? = some (vp_V ((cF ci).map (fun f => hval h f a)) k))
    (e1 : H1[a]? = some (cell.setSlot ((gD G).2 ci k) v)) (e2 : H1.size = H.size) (e3 : ∀ q : Nat, q ≠ a → H1[q]? = H[q]?) : RP X G h' H1 := by
  obtain ⟨g1, g2, g3, g4, g5, g6, g7⟩ := hs
  refine ⟨hP.1.put (hE_obj ht hci) e2 (slS_set e2 q1 e1 (setSlot_sz _ _ _) e3) e3 g1 g2 g3 ?_ g4 (fun f b e => g5 f b (fun z => e z.2)) (fun g b e => g6 g b (fun z => e z.2)) (fun z => by rw [g6 fFR a (fun q => cF_98 hci hf q.1.symm)]; exact hfr (by omega)), fun q hq => ?_, by rw [g2]; exact hP.2.2.1, by rw [g3]; exact hP.2.2.2⟩
  · have ht' : hT h' a = ci + 1 := by rw [g1]; exact ht
    rw [hcell_obj ht' hci]
    refine ⟨_, hc, t_OB.to (V := updV (vp_V ((cF ci).map (fun f => hval h f a))) k v) ⟨_, e1, q2, q3, t_set q4 hap hk v⟩ (fun j _ => ?_)⟩
    have hl : k < ((cF ci).map (fun f => hval h f a)).length := by simpa using (List.getElem?_eq_some_iff.mp hf).1
    have e := cF_set hci hf (fun f => hval h f a) (fun f => hval h' f a) (fun g hg => g5 g a (fun z => hg z.1))
    rw [← e, ← vp_updV_set hl _ j, g7]
  · refine hP.2.1 q ?_
    unfold hD at hq ⊢
    rw [g1, g2] at hq
    exact hq
theorem gh_put (C : HC X G own cc d) {ci k f a N index : Nat} {K ref : String} {T : u_T} {v : Value} {h' : HS} (hs : hSet G h h' f a v) (ht : hT h a = ci + 1) (hci : ci < 26) (hfr : ci = 15 ∨ ci = 16 → hI h fFR a ≠ 0) (hc : vwCl[ci]? = some (K, T, N)) (hin : ∀ w ∈ u_ws K T N, w ∈ lw_all) (ty0 : Nat → FieldType) (hty : ∀ k, k < N → parseFieldDescriptor (T k).2.2.1 = some (ty0 k)) (hnm : ∀ a, a < N → ∀ b, b < N → a ≠ b → (T a).2.1 ≠ (T b).2.1) (hk : k < N) (hf : (cF ci)[k]? = some f)
    (hw : Jvm.Cond.fieldLink own index ref (T k).2.1 (T k).2.2.1 ∈ lw_all) (hsm : ∀ x, (ev_s X).fieldFound? (T k).1 (T k).2.1 (T k).2.2.1 = some x → (ev_s X).fieldFound? ref (T k).2.1 (T k).2.2.1 = some x) (hfin : (T k).2.2.2 = false) {ty : FieldType} (hd : parseFieldDescriptor (T k).2.2.1 = some ty) (hn : narrow ty v = v) (hfit : fits ty v = true) (hdg : decode cc pc = .ok (.putfield index, 3))
    (kk : GH X G h' Q (pc + 3) lv st) : GH X G h Q pc lv (v :: .ref a :: st) := by
  intro H locs ls hP hS hl
  have h6 := hP.1.2.2.1 a (hE_obj ht hci)
  have hAa : ev_A X a := hP.2.1 a (Or.inl (hE_obj ht hci))
  rw [hcell_obj ht hci] at h6
  have hap := va_apart (own := own) C.1.2.2.2.2.1 hin ty0 hty hnm C.2.1.1 hc
  obtain ⟨r, h1, cell, q1, q2, q3, q4⟩ := h6
  have hr : r = (K, T, N) := Option.some.inj (h1.symm.trans hc)
  subst hr
  obtain ⟨hSl, hfc, kC, hkC, hkind⟩ := C.2.1.1.1 ci _ hc
  obtain ⟨cf, kf, fi, fd, hi, hsl⟩ := hSl k hk
  have hlay := C.1.2.2.2.2.1 _ (hin _ (u_in_lay hk))
  unfold u_lay at hlay
  rw [if_neg (by rw [hfin]; decide)] at hlay
  have hst := (u_facts hfc hkC (u_lays C.1.2.2.2.2.1 hin hk) hi).1
  have h6 := u_store hfc hkC hkind hlay hi hd hn hfit
  refine W.putK C.1.1 C.1.2.1 (f := fd) ⟨C.1.2.2.2.1, C.1.2.2.2.2.1 _ hw, ⟨_, _, _, hsm _ hi⟩, hst⟩ (by rw [q2]; exact h6) q1 q3 (by rw [hsl]; exact k2_hasslot (q4 k hk)) rfl rfl hdg fun H' e1 e2 e3 => ?_
  rw [hsl] at e1 ⊢
  have hP' := hs.RP hP ht hci hfr hc hk hf hap q1 q2 q3 q4 e1 e2 e3
  have kk2 := kk H' (locs ++ [⟨a, (gD G).2 ci k⟩]) ls hP' (hS.put e2 e3 hAa) hl
  rw [hs.2.1, hs.2.2.1] at kk2
  exact kk2
theorem gh_putN (C : HC X G own cc d) {ci k f a N index : Nat} {K ref host : String} {T : u_T} {v : Value} {h' : HS} (hs : hSet G h h' f a v) (ht : hT h a = ci + 1) (hci : ci < 26) (hfr : ci = 15 ∨ ci = 16 → hI h fFR a ≠ 0) (hc : vwCl[ci]? = some (K, T, N)) (hin : ∀ w ∈ u_ws K T N, w ∈ lw_all) (ty0 : Nat → FieldType) (hty : ∀ k, k < N → parseFieldDescriptor (T k).2.2.1 = some (ty0 k)) (hnm : ∀ a, a < N → ∀ b, b < N → a ≠ b → (T a).2.1 ≠ (T b).2.1) (hk : k < N) (hf : (cF ci)[k]? = some f)
    (hw : Jvm.Cond.fieldLinkNest own index ref (T k).2.1 (T k).2.2.1 host ∈ lw_tbl) (hsm : ∀ x, (ev_s X).fieldFound? (T k).1 (T k).2.1 (T k).2.2.1 = some x → (ev_s X).fieldFound? ref (T k).2.1 (T k).2.2.1 = some x) (hfin : (T k).2.2.2 = false) {ty : FieldType} (hd : parseFieldDescriptor (T k).2.2.1 = some ty) (hn : narrow ty v = v) (hfit : fits ty v = true) (hdg : decode cc pc = .ok (.putfield index, 3))
    (kk : GH X G h' Q (pc + 3) lv st) : GH X G h Q pc lv (v :: .ref a :: st) := by
  intro H locs ls hP hS hl
  have h6 := hP.1.2.2.1 a (hE_obj ht hci)
  have hAa : ev_A X a := hP.2.1 a (Or.inl (hE_obj ht hci))
  rw [hcell_obj ht hci] at h6
  have hap := va_apart (own := own) C.1.2.2.2.2.1 hin ty0 hty hnm C.2.1.1 hc
  obtain ⟨r, h1, cell, q1, q2, q3, q4⟩ := h6
  have hr : r = (K, T, N) := Option.some.inj (h1.symm.trans hc)
  subst hr
  obtain ⟨hSl, hfc, kC, hkC, hkind⟩ := C.2.1.1.1 ci _ hc
  obtain ⟨cf, kf, fi, fd, hi, hsl⟩ := hSl k hk
  have hlay := C.1.2.2.2.2.1 _ (hin _ (u_in_lay hk))
  unfold u_lay at hlay
  rw [if_neg (by rw [hfin]; decide)] at hlay
  have hst := (u_facts hfc hkC (u_lays C.1.2.2.2.2.1 hin hk) hi).1
  have h6 := u_store hfc hkC hkind hlay hi hd hn hfit
  refine va_WputK C.1.1 C.1.2.1 (f := fd) C.1.2.2.2.1 (va_Nw.use rfl (C.2.1.2.1 _ hw rfl)) (hsm _ hi) hst (by rw [q2]; exact h6) q1 q3 (by rw [hsl]; exact k2_hasslot (q4 k hk)) rfl rfl hdg fun H' e1 e2 e3 => ?_
  rw [hsl] at e1 ⊢
  have hP' := hs.RP hP ht hci hfr hc hk hf hap q1 q2 q3 q4 e1 e2 e3
  have kk2 := kk H' (locs ++ [⟨a, (gD G).2 ci k⟩]) ls hP' (hS.put e2 e3 hAa) hl
  rw [hs.2.1, hs.2.2.1] at kk2
  exact kk2
theorem gh_putF (C : HC X G own cc d) {ci k f a N index : Nat} {K : String} {T : u_T} {v : Value} {h' : HS} (hs : hSet G h h' f a v) (ht : hT h a = ci + 1) (hci : ci < 26) (hfr : ci = 15 ∨ ci = 16 → hI h fFR a ≠ 0) (hc : vwCl[ci]? = some (K, T, N)) (hin : ∀ w ∈ u_ws K T N, w ∈ lw_all) (ty0 : Nat → FieldType) (hty : ∀ k, k < N → parseFieldDescriptor (T k).2.2.1 = some (ty0 k)) (hnm : ∀ a, a < N → ∀ b, b < N → a ≠ b → (T a).2.1 ≠ (T b).2.1) (hk : k < N) (hf : (cF ci)[k]? = some f)
    (hw : Jvm.Cond.fieldLink own index own (T k).2.1 (T k).2.2.1 ∈ lw_all) (hfin : (T k).2.2.2 = true) (hini : (ev_h X).name = "<init>") (hdecl : (T k).1 = own) {ty : FieldType} (hd : parseFieldDescriptor (T k).2.2.1 = some ty) (hn : narrow ty v = v) (hfit : fits ty v = true) (hdg : decode cc pc = .ok (.putfield index, 3))
    (kk : GH X G h' Q (pc + 3) lv st) : GH X G h Q pc lv (v :: .ref a :: st) := by
  intro H locs ls hP hS hl
  have h6 := hP.1.2.2.1 a (hE_obj ht hci)
  have hAa : ev_A X a := hP.2.1 a (Or.inl (hE_obj ht hci))
  rw [hcell_obj ht hci] at h6
  have hap := va_apart (own := own) C.1.2.2.2.2.1 hin ty0 hty hnm C.2.1.1 hc
  obtain ⟨r, h1, cell, q1, q2, q3, q4⟩ := h6
  have hr : r = (K, T, N) := Option.some.inj (h1.symm.trans hc)
  subst hr
  obtain ⟨hSl, hfc, kC, hkC, hkind⟩ := C.2.1.1.1 ci _ hc
  obtain ⟨cf, kf, fi, fd, hi, hsl⟩ := hSl k hk
  have hlay := C.1.2.2.2.2.1 _ (hin _ (u_in_lay hk))
  unfold u_lay at hlay
  rw [if_pos hfin] at hlay
  have hst := (u_facts hfc hkC (u_lays C.1.2.2.2.2.1 hin hk) hi).1
  have hcf : (ev_m X).cls = cf := by
    obtain ⟨_, _, c', _, _, _, -, -, hf', -, -, -, hown2, -⟩ := Cond.laysFinal_spec hlay
    have e1 : c' = cf := by have := hi.symm.trans hf'; simp at this; exact this.1.symm
    rw [hdecl] at hown2
    rw [← e1]; exact Option.some.inj (C.1.2.2.2.1.symm.trans hown2)
  have h6 := u_fits hfc hkC hkind (Or.inr hlay) hi hd hn hfit
  refine W.putFinK C.1.1 C.1.2.1 C.1.2.2.2.1 (C.1.2.2.2.2.1 _ hw) (by rw [hdecl] at hi; exact hi) hst hcf hini (by rw [q2]; exact h6) q1 q3 (by rw [hsl]; exact k2_hasslot (q4 k hk)) rfl rfl hdg fun H' e1 e2 e3 => ?_
  rw [hsl] at e1 ⊢
  have hP' := hs.RP hP ht hci hfr hc hk hf hap q1 q2 q3 q4 e1 e2 e3
  have kk2 := kk H' (locs ++ [⟨a, (gD G).2 ci k⟩]) ls hP' (hS.put e2 e3 hAa) hl
  rw [hs.2.1, hs.2.2.1] at kk2
  exact kk2
end GRS
