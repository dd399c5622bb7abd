/-! THE START: statics, the Integers' cache, lambdas' objects -/
def tCache : Term := .static "java/lang/Integer$IntegerCache" "cache" "[Ljava/lang/Integer;"
theorem st_SG {s : State} {args : Array Value} {A : Nat → Prop} (hts : ∀ w ∈ lw_tbl, w.before args s = true) (hn : ∀ w ∈ flatC (Jvm.Cond.and given_1 narrow_1), w.before args s = true) (hA : ∀ a : Nat, a < s.heap.size → ¬ A a) {lam : Nat → ClassId} {lk : Nat → Nat} (hlk : ∀ i, i ∈ siteC → ∃ cell : Cell, s.heap[lk i]? = some cell ∧ cell.cls = lam i ∧ cell.vm = .none) :
    ∃ (ic : Nat → Nat) (pr : Nat), ∀ (D : va_G) (ar : Nat → ClassId) (gf : Nat → Array Value) (cc ss : Nat), SG (D, ar, lam, lk, ic, pr, gf, cc, ss) A s s.heap := by
  have hlen : (Term.length tCache).eval args s none [] s = some (.int (Int32.ofNat 256)) := va_eqv (hn (.eq (.length tCache) (.int 256)) (by decide +kernel)) rfl
  obtain ⟨ad, hC, hel⟩ := vb_Cof (A := A) (st := tCache) (by decide) hlen (hn _ (by decide +kernel)) hA
  obtain ⟨t, ht⟩ : ∃ t, tCache.eval args s none [] s = some (.ref t) := by
    obtain ⟨b, cell, h1, -⟩ := Term.length_spec hlen
    exact ⟨b, h1⟩
  obtain ⟨pr, c, cell, k, hpr, -⟩ := Cond.exactly_spec (hn (.exactly (.static "java/util/HashSet" "PRESENT" "Ljava/lang/Object;") "java/lang/Object") (by decide +kernel))
  refine ⟨ad, pr, fun D ar gf cc ss => ⟨hC, va_Zof (hts _ q571) (hts _ (lw_all_tbl q158)) (va_eqv (hn (.eq (.static "java/lang/Integer$IntegerCache" "high" "I") (.int 127)) (by decide +kernel)) rfl) hA, ⟨t, va_Zof (hts _ q573) (hts _ (lw_all_tbl q158)) ht hA, ?_⟩, va_Zof (hts _ q1818) (hts _ (lw_all_tbl q183)) hpr hA, vx_Zqof (hts _ q371) (hts _ (lw_all_tbl q145)) (hn _ (by decide +kernel)) hA, vx_Zqof (hts _ q373) (hts _ (lw_all_tbl q145)) (hn _ (by decide +kernel)) hA, fun i hi => ?_⟩⟩
  · obtain ⟨t', h1⟩ : ∃ t', tCache.eval args s none [] s = some (.ref t') ∧ va_T (.object "java/lang/Integer") t' 256 (fun k => .ref (ad k)) A s s.heap := va_Tof (by decide) (hn _ (by decide +kernel)) hlen hel hA
    have e : t' = t := by
      have := h1.1.symm.trans ht
      cases this
      rfl
    rw [← e]
    exact h1.2
  · obtain ⟨cell, h1, h2, h3⟩ := hlk i hi
    exact ⟨⟨cell, h1, h2, h3⟩, hA _ (Array.getElem?_eq_some_iff.mp h1).1⟩
