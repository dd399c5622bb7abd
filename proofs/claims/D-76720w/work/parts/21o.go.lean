/-! Integer.valueOf of a small int: the cache's -/
theorem wx_valueOf {l : Launch} {G : GG} {d : Nat} {v : Int32} {h : HS} {Q : QT} {E : ET} (hst : l.stackTraces = false) (z1 : ¬ v < (-128)) (z2 : ¬ 127 < v) (hw : ∀ a : Nat, hT h a = 300 → hI h fINT a = v → Q (some (.ref a)) h) : HMet l G yJ8_valueOf (ws_ yJ8_valueOf cJ8_valueOf 1 (some (Jvm.ClassFile.FieldType.object "java/lang/Integer"))) d [.int v] h Q E := by
  refine gh_met (own := RJ8) rfl (by decide) hst (Nat.le_refl 1) fun X hl hn hret hnm hTb h0 e0 C S0 => ?_
  subst e0
  refine gk_iload_n (pc := 0) C.1 0 dJ8_valueOf_0 rfl rfl ?_
  refine gk_bipush (pc := 1) C.1 dJ8_valueOf_1 (v := -128) rfl ?_
  refine gk_icmp_lt (pc := 3) C.1 (tgt := 23) dJ8_valueOf_3 rfl (fun z => absurd z z1) (fun _ => ?_)
  refine gk_iload_n (pc := 6) C.1 0 dJ8_valueOf_6 rfl rfl ?_
  refine gh_gets (pc := 7) C C.2.2.1.2.1 q570 (fun x hx => hx) dJ8_valueOf_7 ?_
  refine gk_icmp_gt (pc := 10) C.1 (tgt := 23) dJ8_valueOf_10 rfl (fun z => absurd z z2) (fun _ => ?_)
  obtain ⟨t, h3, h4⟩ := C.2.2.1.2.2.1
  refine gh_gets (pc := 13) C h3 q572 (fun x hx => hx) dJ8_valueOf_13 ?_
  refine gk_iload_n (pc := 16) C.1 0 dJ8_valueOf_16 rfl rfl ?_
  refine gk_sipush (pc := 17) C.1 dJ8_valueOf_17 (v := 128) rfl ?_
  refine gk_iadd (pc := 20) C.1 dJ8_valueOf_20 ?_
  obtain ⟨j, hj, ej, ev⟩ := bx_small z1 z2
  have hk : GH X G h0 (hQ X G h0 Q E) 22 (lv_args 0 [.int v]) [va_rf (some (gIc G j))] := by
    intro H locs ls hP hS hl
    have h10 := hP.1.2.2.2.2.2.2.1 j hj
    exact gh_aret (pc := 22) (r := some (gIc G j)) C S0 hret (Or.inl ⟨_, rfl⟩) dJ8_valueOf_22 (hw _ h10.1 (by rw [h10.2, ev])) H locs ls hP hS hl
  intro H locs ls hP hS hl
  have hin : vp_in (v + 128) 256 := by
    rw [ej]
    exact nI_in hj (by omega)
  exact vb_tq C.1.1 C.1.2.1 h4 hS hin (v := .ref (gIc G j)) (by rw [ej, nI_clamp (by omega)]) dJ8_valueOf_21 (hk H locs ls hP hS hl)
theorem gh_valueOf {X : Ev} {G : GG} {own : String} {cc : ByteArray} {d pc index : Nat} {lv : List (Nat × Value)} {rest : List Value} {h : HS} {Q0 : State → Prop} {v : Int32} (C : HC X G own cc (d + 1)) (hd : 1 ≤ d) (hlink : Jvm.Cond.methodLink own index yJ8_valueOf ∈ lw_all) (z1 : ¬ v < (-128)) (z2 : ¬ 127 < v) (hc : (rest.map fun v => v.category).sum ≤ 8) (hdg : decode cc pc = .ok (.invokestatic index, 3))
    (kk : ∀ a : Nat, hT h a = 300 → hI h fINT a = v → GH X G h Q0 (pc + 3) lv (.ref a :: rest)) : GH X G h Q0 pc lv (.int v :: rest) := by
  refine gh_callS (n := 1) (As := [.int v]) (E1 := fun _ _ => False) (Q1 := fun w h2 => h2 = h ∧ ∃ a, w = some (.ref a) ∧ hT h a = 300 ∧ hI h fINT a = v) C (wx_valueOf (d := d) C.2.2.2.2.2 z1 z2 (fun a h1 h2 => ⟨rfl, a, rfl, h1, h2⟩)) hlink q568 q157 q569 ⟨by decide, by decide, by decide +kernel⟩ ⟨Nat.le_refl _, by decide⟩ rfl rfl hc hdg ?_ (fun q h2 z => z.elim)
  rintro w h2 ⟨rfl, a, rfl, h1, h3⟩
  exact kk a h1 h3
