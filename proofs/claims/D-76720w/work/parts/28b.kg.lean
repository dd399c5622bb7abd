/-! THE START: KG (printed by tools/start2.py) -/
set_option maxRecDepth 100000
def gF0 (D : va_G) (s : State) (ci : Nat) : Array Value := match s.vm.classes[D.1 ci]? with
  | some k => k.instanceTypes.map defaultValue
  | none => #[]
theorem nc_in : ∀ q, q ∈ ncL → Jvm.Cond.not (.castable q.1 q.2) ∈ flatC (Jvm.Cond.and given_1 narrow_1) := by decide +kernel
theorem st_KG {s : State} {args : Array Value} (hts : ∀ w ∈ lw_tbl, w.before args s = true) (hn : ∀ w ∈ flatC (Jvm.Cond.and given_1 narrow_1), w.before args s = true) {D : va_G} (hD : ∀ (c : Nat) (q : vw_C), vwCl[c]? = some q → u_Kn s q.1 q.2.1 q.2.2 (D.1 c) (D.2 c)) {ar : Nat → ClassId} (har : ∀ t, t ∈ tyT → ArrOfT s (ar t) (tyA t) ∧ va_RA s (ar t) (tyA t))
    {lam : Nat → ClassId} {lk : Nat → Nat} (hlam : ∀ q, q ∈ siteL → lsP q.2 (lam q.1) (if q.1 ∈ siteC then some (lk q.1) else none) s) (ic : Nat → Nat) (pr cc ss : Nat) : KG (D, ar, lam, lk, ic, pr, gF0 D s, cc, ss) s := by
  refine ⟨⟨hD, fun k q hk => ?_⟩, fun w hw hr => va_Nw.of (by cases w <;> first | rfl | exact absurd hr (by simp [rwW])) (hts w hw), fun C hC => va_AO.of (hts _ hC), fun q hq => ?_, fun q hq => va_Nc.of (hn _ (nc_in q hq)), hlam, ⟨va_Nw.of rfl (hts _ q1305), va_Nw.of rfl (hts _ q1304)⟩, ⟨va_Nw.of rfl (hts _ q1531), va_Nw.of rfl (hts _ q1530)⟩, fun ci hci k hk => ?_⟩
  · have hk2 : (tyT.map (fun t => (ar t, tyA t)))[k]? = some q := hk
    rw [List.getElem?_map, Option.map_eq_some_iff] at hk2
    obtain ⟨t, ht, rfl⟩ := hk2
    exact har t (List.mem_of_getElem? ht)
  · simp only [fwL, List.mem_cons, List.not_mem_nil, or_false] at hq
    rcases hq with e | e | e | e | e <;> subst e
    · exact va_Fw.of (hts _ q1512) (hts _ q1511) (hts _ q1523) (hts _ q1521) (hts _ q1519)
    · exact va_Fw.of (hts _ q1512) (hts _ q1511) (hts _ q1517) (hts _ q1515) (hts _ q1513)
    · exact va_Fw.of (hts _ q1052) (hts _ q1051) (hts _ q1112) (hts _ q1110) (hts _ q1108)
    · exact va_Fw.of (hts _ q1142) (hts _ q1141) (hts _ q1153) (hts _ q1151) (hts _ q1149)
    · exact va_Fw.of (hts _ q1158) (hts _ q1157) (hts _ q1173) (hts _ q1171) (hts _ q1149)
  · show gF0 D s ci = _
    unfold gF0
    have hk2 : s.vm.classes[D.1 ci]? = some k := hk
    rw [hk2]
