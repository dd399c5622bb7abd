/-! THE START: the heap as the component sees it -/
def t0 (ic lk : Nat → Nat) (a : Nat) : Nat := if (List.range 256).any (fun k => ic k == a) = true then 300 else if a = lk 1 then 301 else if a = lk 4 then 304 else if a = lk 5 then 305 else if a = lk 11 then 311 else 0
def i0 (ic : Nat → Nat) (f a : Nat) : Int32 := if f = fINT then (match (List.range 256).find? (fun k => ic k == a) with | some k => vb_c k | none => 0) else 0
def hs0 (ic lk : Nat → Nat) (z l : Nat) : HS := (t0 ic lk, fun _ => 0, i0 ic, fun _ _ => none, fun _ _ => 0, fun _ _ => none, z, l)
theorem t0_cases (ic lk : Nat → Nat) (a : Nat) : (t0 ic lk a = 300 ∧ ∃ k, k < 256 ∧ a = ic k) ∨ (t0 ic lk a = 301 ∧ a = lk 1) ∨ (t0 ic lk a = 304 ∧ a = lk 4) ∨ (t0 ic lk a = 305 ∧ a = lk 5) ∨ (t0 ic lk a = 311 ∧ a = lk 11) ∨ t0 ic lk a = 0 := by
  unfold t0
  split
  · rename_i h
    rw [List.any_eq_true] at h
    obtain ⟨k, hk, e⟩ := h
    exact Or.inl ⟨rfl, k, List.mem_range.mp hk, (by simpa using e : ic k = a).symm⟩
  · split
    · rename_i e; exact Or.inr (Or.inl ⟨rfl, e⟩)
    · split
      · rename_i e; exact Or.inr (Or.inr (Or.inl ⟨rfl, e⟩))
      · split
        · rename_i e; exact Or.inr (Or.inr (Or.inr (Or.inl ⟨rfl, e⟩)))
        · split
          · rename_i e; exact Or.inr (Or.inr (Or.inr (Or.inr (Or.inl ⟨rfl, e⟩))))
          · exact Or.inr (Or.inr (Or.inr (Or.inr (Or.inr rfl))))
theorem cp_45 : (lmD (shpOf siteWord_1_4) "GathersAllFaults$Reader").constantPool ≠ (lmD (shpOf siteWord_1_5) "GathersAllFaults$Reader").constantPool := by decide +kernel
theorem cp_411 : (lmD (shpOf siteWord_1_4) "GathersAllFaults$Reader").constantPool ≠ (lmD (shpOf siteWord_1_11) "GathersAllFaults$Reader").constantPool := by decide +kernel
theorem cp_511 : (lmD (shpOf siteWord_1_5) "GathersAllFaults$Reader").constantPool ≠ (lmD (shpOf siteWord_1_11) "GathersAllFaults$Reader").constantPool := by decide +kernel
theorem lam_cls {s : State} {args : Array Value} (hts : ∀ w ∈ lw_tbl, w.before args s = true) {w : Jvm.Cond} {c : ClassId} {one : Option Nat} (h : lsP w c one s) {dn : String} {bytes : ByteArray} {maxL : Nat} {ret : Option FieldType} {tys : List FieldType} {fs : List Nat} {mi ci nt : Nat} (K : LK (shpOf w) dn bytes maxL ret tys fs mi ci nt) (hdn : (snmOf w).cls = dn) :
    ∃ (k : Class) (file : ClassFile), s.vm.classes[c]? = some k ∧ k.name = dn ++ "$$Lambda" ∧ k.cf = some file ∧ file.constantPool = (lmD (shpOf w) dn).constantPool := by
  obtain ⟨mD, kD, cfD, i0, p0, lk, hmD, hkD, -, -, -, hmade, -⟩ := lsP_at h
  obtain ⟨kD', hkD', hnameD⟩ := className_of_methodNamed hmD
  cases hkD.symm.trans hkD'
  rw [hdn] at hnameD
  obtain ⟨k, tk, file, methk, ck, toy, t, ⟨h1, h2, h3, h4⟩, -⟩ := lm_facts K hkD hnameD (fun o k ho hk => by
    obtain ⟨c, k0, g1, g2, -, -, -, g3⟩ := Cond.instantiable_spec (hts _ (lw_all_tbl q2788))
    cases ho.symm.trans g1
    cases hk.symm.trans g2
    exact Array.eq_empty_of_size_eq_zero g3) hmade
  exact ⟨k, file, h1, h2, h3, h4⟩
theorem st_RH {s : State} {args : Array Value} {A : Nat → Prop} (hts : ∀ w ∈ lw_tbl, w.before args s = true) {D : va_G} {ar : Nat → ClassId} {lam : Nat → ClassId} {lk ic : Nat → Nat} {pr cc ss : Nat} {gf : Nat → Array Value} (hK : KG (D, ar, lam, lk, ic, pr, gf, cc, ss) s) (hS : SG (D, ar, lam, lk, ic, pr, gf, cc, ss) A s s.heap) (h1 : s.heap.size ≤ cc) (h2 : slS s.heap ≤ ss) :
    RH (D, ar, lam, lk, ic, pr, gf, cc, ss) (hs0 ic lk s.heap.size (slS s.heap)) s.heap := by
  have hlam := hK.2.2.2.2.2.1
  have L1 := lam_cls hts (hlam (1, siteWord_1_1) (.head _)) LK_1 rfl
  have L4 := lam_cls hts (hlam (4, siteWord_1_4) (.tail _ (.tail _ (.tail _ (.head _))))) LK_4 rfl
  have L5 := lam_cls hts (hlam (5, siteWord_1_5) (.tail _ (.tail _ (.tail _ (.tail _ (.head _)))))) LK_5 rfl
  have L11 := lam_cls hts (hlam (11, siteWord_1_11) (.tail _ (.tail _ (.tail _ (.tail _ (.tail _ (.tail _ (.tail _ (.tail _ (.tail _ (.tail _ (.head _))))))))))) ) LK_11 rfl
  have hlk := hS.2.2.2.2.2.2
  have hic := hS.1.1
  have c1 := (hlk 1 (by decide)).1
  have c4 := (hlk 4 (by decide)).1
  have c5 := (hlk 5 (by decide)).1
  have c11 := (hlk 11 (by decide)).1
  have ne_ic : ∀ (i k : Nat) (dn : String), (∃ (kk : Class) (file : ClassFile), s.vm.classes[lam i]? = some kk ∧ kk.name = dn ++ "$$Lambda" ∧ k < 256) → (∃ cell : Cell, s.heap[lk i]? = some cell ∧ cell.cls = lam i ∧ cell.vm = .none) → dn ++ "$$Lambda" ≠ "java/lang/Integer" → k < 256 → ic k ≠ lk i := by
    rintro i k dn ⟨kk, file, g1, g2, -⟩ ⟨cell, g3, g4, -⟩ hne hk e
    obtain ⟨cell2, e1, e2, e3, -⟩ := hic k hk
    have e4 : s.heap[ic k]? = some cell2 := e1
    rw [e, g3] at e4
    cases e4
    obtain ⟨k9, h9, n9⟩ := Vm.findClass_spec e3
    rw [g4, g1] at h9
    cases h9
    exact hne (g2.symm.trans n9)
  have d1 : ∀ k, k < 256 → ic k ≠ lk 1 := fun k hk => by obtain ⟨kk, f, g1, g2, -⟩ := L1; exact ne_ic 1 k _ ⟨kk, f, g1, g2, hk⟩ c1 (by decide) hk
  have d4 : ∀ k, k < 256 → ic k ≠ lk 4 := fun k hk => by obtain ⟨kk, f, g1, g2, -⟩ := L4; exact ne_ic 4 k _ ⟨kk, f, g1, g2, hk⟩ c4 (by decide) hk
  have d5 : ∀ k, k < 256 → ic k ≠ lk 5 := fun k hk => by obtain ⟨kk, f, g1, g2, -⟩ := L5; exact ne_ic 5 k _ ⟨kk, f, g1, g2, hk⟩ c5 (by decide) hk
  have d11 : ∀ k, k < 256 → ic k ≠ lk 11 := fun k hk => by obtain ⟨kk, f, g1, g2, -⟩ := L11; exact ne_ic 11 k _ ⟨kk, f, g1, g2, hk⟩ c11 (by decide) hk
  have same : ∀ i j, (∃ cell : Cell, s.heap[lk i]? = some cell ∧ cell.cls = lam i ∧ cell.vm = .none) → (∃ cell : Cell, s.heap[lk j]? = some cell ∧ cell.cls = lam j ∧ cell.vm = .none) → lk i = lk j → lam i = lam j := by
    rintro i j ⟨a, a1, a2, -⟩ ⟨b, b1, b2, -⟩ e
    rw [e, b1] at a1
    cases a1
    exact a2.symm.trans b2
  have n14 : lk 1 ≠ lk 4 := fun e => by
    obtain ⟨k, f, g1, g2, -⟩ := L1; obtain ⟨k', f', g1', g2', -⟩ := L4
    have e2 := same 1 4 c1 c4 e
    have g1'' : s.vm.classes[lam 4]? = some k' := g1'
    rw [← e2] at g1''
    cases (show s.vm.classes[lam 1]? = some k from g1).symm.trans g1''
    exact absurd (g2.symm.trans g2') (by decide)
  have n15 : lk 1 ≠ lk 5 := fun e => by
    obtain ⟨k, f, g1, g2, -⟩ := L1; obtain ⟨k', f', g1', g2', -⟩ := L5
    have e2 := same 1 5 c1 c5 e
    have g1'' : s.vm.classes[lam 5]? = some k' := g1'
    rw [← e2] at g1''
    cases (show s.vm.classes[lam 1]? = some k from g1).symm.trans g1''
    exact absurd (g2.symm.trans g2') (by decide)
  have n111 : lk 1 ≠ lk 11 := fun e => by
    obtain ⟨k, f, g1, g2, -⟩ := L1; obtain ⟨k', f', g1', g2', -⟩ := L11
    have e2 := same 1 11 c1 c11 e
    have g1'' : s.vm.classes[lam 11]? = some k' := g1'
    rw [← e2] at g1''
    cases (show s.vm.classes[lam 1]? = some k from g1).symm.trans g1''
    exact absurd (g2.symm.trans g2') (by decide)
  have n45 : lk 4 ≠ lk 5 := fun e => by
    obtain ⟨k, f, g1, -, g3, g4⟩ := L4; obtain ⟨k', f', g1', -, g3', g4'⟩ := L5
    have e2 := same 4 5 c4 c5 e
    have g1'' : s.vm.classes[lam 5]? = some k' := g1'
    rw [← e2] at g1''
    cases (show s.vm.classes[lam 4]? = some k from g1).symm.trans g1''
    cases g3.symm.trans g3'
    exact cp_45 (g4.symm.trans g4')
  have n411 : lk 4 ≠ lk 11 := fun e => by
    obtain ⟨k, f, g1, -, g3, g4⟩ := L4; obtain ⟨k', f', g1', -, g3', g4'⟩ := L11
    have e2 := same 4 11 c4 c11 e
    have g1'' : s.vm.classes[lam 11]? = some k' := g1'
    rw [← e2] at g1''
    cases (show s.vm.classes[lam 4]? = some k from g1).symm.trans g1''
    cases g3.symm.trans g3'
    exact cp_411 (g4.symm.trans g4')
  have n511 : lk 5 ≠ lk 11 := fun e => by
    obtain ⟨k, f, g1, -, g3, g4⟩ := L5; obtain ⟨k', f', g1', -, g3', g4'⟩ := L11
    have e2 := same 5 11 c5 c11 e
    have g1'' : s.vm.classes[lam 11]? = some k' := g1'
    rw [← e2] at g1''
    cases (show s.vm.classes[lam 5]? = some k from g1).symm.trans g1''
    cases g3.symm.trans g3'
    exact cp_511 (g4.symm.trans g4')
  have notic : ∀ a, (∀ k, k < 256 → ic k ≠ a) → ¬ (List.range 256).any (fun k => ic k == a) = true := fun a h q => by
    rw [List.any_eq_true] at q
    obtain ⟨k, hk, e⟩ := q
    exact h k (List.mem_range.mp hk) (by simpa using e)
  have T1 : t0 ic lk (lk 1) = 301 := by unfold t0; rw [if_neg (notic _ d1), if_pos rfl]
  have T4 : t0 ic lk (lk 4) = 304 := by unfold t0; rw [if_neg (notic _ d4), if_neg (fun e => n14 e.symm), if_pos rfl]
  have T5 : t0 ic lk (lk 5) = 305 := by unfold t0; rw [if_neg (notic _ d5), if_neg (fun e => n15 e.symm), if_neg (fun e => n45 e.symm), if_pos rfl]
  have T11 : t0 ic lk (lk 11) = 311 := by unfold t0; rw [if_neg (notic _ d11), if_neg (fun e => n111 e.symm), if_neg (fun e => n411 e.symm), if_neg (fun e => n511 e.symm), if_pos rfl]
  have lt : ∀ i, (∃ cell : Cell, s.heap[lk i]? = some cell ∧ cell.cls = lam i ∧ cell.vm = .none) → lk i < s.heap.size := fun i ⟨c, g, _⟩ => (Array.getElem?_eq_some_iff.mp g).1
  have tc : ∀ a, t0 ic lk a = 300 ∨ t0 ic lk a = 301 ∨ t0 ic lk a = 304 ∨ t0 ic lk a = 305 ∨ t0 ic lk a = 311 ∨ t0 ic lk a = 0 := fun a => by
    rcases t0_cases ic lk a with ⟨e, -⟩ | ⟨e, -⟩ | ⟨e, -⟩ | ⟨e, -⟩ | ⟨e, -⟩ | e <;> rw [e] <;> decide
  refine ⟨⟨rfl, rfl, h1, h2⟩, fun a ha => ?_, fun a ha => ?_, fun a i e hi => ?_, fun a e => ?_, fun a i e hi => ?_, fun k hk => ?_, fun i hi => ?_, fun a ha => ?_⟩
  · rcases t0_cases ic lk a with ⟨-, k, hk, e⟩ | ⟨-, e⟩ | ⟨-, e⟩ | ⟨-, e⟩ | ⟨-, e⟩ | e
    · obtain ⟨cell, g, -⟩ := hic k hk
      rw [e]
      exact (Array.getElem?_eq_some_iff.mp g).1
    · rw [e]; exact lt 1 c1
    · rw [e]; exact lt 4 c4
    · rw [e]; exact lt 5 c5
    · rw [e]; exact lt 11 c11
    · exact (ha e).elim
  · exfalso
    have h9 : hE (t0 ic lk a) = true := ha
    rcases tc a with e | e | e | e | e | e <;> rw [e] at h9 <;> exact absurd h9 (by decide)
  · exfalso
    have h9 : t0 ic lk a = 200 + i := e
    rcases tc a with q | q | q | q | q | q <;> omega
  · have h9 : t0 ic lk a = 300 := e
    rcases t0_cases ic lk a with ⟨-, k, hk, e⟩ | ⟨q, -⟩ | ⟨q, -⟩ | ⟨q, -⟩ | ⟨q, -⟩ | q
    · refine ⟨k, hk, e, ?_⟩
      show i0 ic fINT a = vb_c k
      unfold i0
      rw [if_pos rfl]
      cases hf : (List.range 256).find? (fun k => ic k == a) with
      | none =>
        have := List.find?_eq_none.mp hf k (List.mem_range.mpr hk)
        exact absurd e.symm (by simpa using this)
      | some k' =>
        have g := List.find?_some hf
        have g2 : ic k' = a := by simpa using g
        have hk' : k' < 256 := List.mem_range.mp (List.mem_of_find?_eq_some hf)
        show vb_c k' = vb_c k
        obtain ⟨cf, kc, j, f, cell, f1, -, f3, -, f5, -⟩ := hS.1.2 k hk
        obtain ⟨cf', kc', j', f', cell', f1', -, f3', -, f5', -⟩ := hS.1.2 k' hk'
        have f3'' : s.heap[ic k']? = some cell' := f3'
        have f3''' : s.heap[ic k]? = some cell := f3
        rw [g2, e, f3'''] at f3''
        cases f3''
        cases f1.symm.trans f1'
        rw [f5] at f5'
        exact (Value.int.inj (Option.some.inj f5')).symm
    all_goals omega
  · have h9 : t0 ic lk a = 300 + i := e
    show a = lk i
    rcases t0_cases ic lk a with ⟨q, -⟩ | ⟨q, q2⟩ | ⟨q, q2⟩ | ⟨q, q2⟩ | ⟨q, q2⟩ | q
    · omega
    · rw [show i = 1 by omega]; exact q2
    · rw [show i = 4 by omega]; exact q2
    · rw [show i = 5 by omega]; exact q2
    · rw [show i = 11 by omega]; exact q2
    · omega
  · have hany : (List.range 256).any (fun j => ic j == ic k) = true := List.any_eq_true.mpr ⟨k, List.mem_range.mpr hk, by simp⟩
    refine ⟨?_, ?_⟩
    · show t0 ic lk (ic k) = 300
      unfold t0
      rw [if_pos hany]
    · show i0 ic fINT (ic k) = vb_c k
      unfold i0
      rw [if_pos rfl]
      cases hf : (List.range 256).find? (fun j => ic j == ic k) with
      | none =>
        have := List.find?_eq_none.mp hf k (List.mem_range.mpr hk)
        simp at this
      | some k' =>
        have g := List.find?_some hf
        have g2 : ic k' = ic k := by simpa using g
        have hk' : k' < 256 := List.mem_range.mp (List.mem_of_find?_eq_some hf)
        show vb_c k' = vb_c k
        obtain ⟨cf, kc, j, f, cell, f1, -, f3, -, f5, -⟩ := hS.1.2 k hk
        obtain ⟨cf', kc', j', f', cell', f1', -, f3', -, f5', -⟩ := hS.1.2 k' hk'
        have f3'' : s.heap[ic k']? = some cell' := f3'
        have f3''' : s.heap[ic k]? = some cell := f3
        rw [g2, f3'''] at f3''
        cases f3''
        cases f1.symm.trans f1'
        rw [f5] at f5'
        exact (Value.int.inj (Option.some.inj f5')).symm
  · show t0 ic lk (lk i) = 300 + i
    simp only [List.mem_cons, List.not_mem_nil, or_false] at hi
    rcases hi with e | e | e | e <;> subst e
    · exact T1
    · exact T4
    · exact T5
    · exact T11
  · have h9 : t0 ic lk a = 16 ∨ t0 ic lk a = 17 := ha
    exfalso
    rcases tc a with q | q | q | q | q | q <;> omega
