/-! THE START: classes, arrays, statics, lambdas out of the words (printed by tools/start.py) -/
set_option maxRecDepth 100000
section ST
variable {s : State} {args : Array Value}
theorem st_cls (hts : ∀ w ∈ lw_tbl, w.before args s = true) : ∃ D : va_G, ∀ (c : Nat) (q : vw_C), vwCl[c]? = some q → u_Kn s q.1 q.2.1 q.2.2 (D.1 c) (D.2 c) := by
  have key : ∀ c : Nat, ∃ p : ClassId × (Nat → Nat), ∀ q : vw_C, vwCl[c]? = some q → u_Kn s q.1 q.2.1 q.2.2 p.1 p.2 := by
    intro c
    match c with
    | 0 =>
      obtain ⟨a, b, h⟩ := u_known (C := RX0) (T := TX0) (N := 17) (n := 17) hts (fun w h => lw_all_tbl (in_X0 w h)) (hts _ (lw_all_tbl q186))
      exact ⟨(a, b), fun q hq => by cases Option.some.inj hq; exact h⟩
    | 1 =>
      obtain ⟨a, b, h⟩ := u_known (C := RX2) (T := TX2) (N := 1) (n := 1) hts (fun w h => lw_all_tbl (in_X2 w h)) (hts _ (lw_all_tbl q194))
      exact ⟨(a, b), fun q hq => by cases Option.some.inj hq; exact h⟩
    | 2 =>
      obtain ⟨a, b, h⟩ := u_known (C := RX5) (T := TN0) (N := 0) (n := 0) hts (fun w h => lw_all_tbl (in_N0 w h)) (hts _ (lw_all_tbl q253))
      exact ⟨(a, b), fun q hq => by cases Option.some.inj hq; exact h⟩
    | 3 =>
      obtain ⟨a, b, h⟩ := u_known (C := RX11) (T := TX11) (N := 2) (n := 2) hts (fun w h => lw_all_tbl (in_X11 w h)) (hts _ (lw_all_tbl q1016))
      exact ⟨(a, b), fun q hq => by cases Option.some.inj hq; exact h⟩
    | 4 =>
      obtain ⟨a, b, h⟩ := u_known (C := RX12) (T := TX12) (N := 1) (n := 1) hts (fun w h => lw_all_tbl (in_X12 w h)) (hts _ (lw_all_tbl q1213))
      exact ⟨(a, b), fun q hq => by cases Option.some.inj hq; exact h⟩
    | 5 =>
      obtain ⟨a, b, h⟩ := u_known (C := RX19) (T := TX19) (N := 2) (n := 2) hts (fun w h => lw_all_tbl (in_X19 w h)) (hts _ (lw_all_tbl q1608))
      exact ⟨(a, b), fun q hq => by cases Option.some.inj hq; exact h⟩
    | 6 =>
      obtain ⟨a, b, h⟩ := u_known (C := RX18) (T := TX18) (N := 2) (n := 2) hts (fun w h => lw_all_tbl (in_X18 w h)) (hts _ (lw_all_tbl q1412))
      exact ⟨(a, b), fun q hq => by cases Option.some.inj hq; exact h⟩
    | 7 =>
      obtain ⟨a, b, h⟩ := u_known (C := RX13) (T := TX13) (N := 2) (n := 2) hts (fun w h => lw_all_tbl (in_X13 w h)) (hts _ (lw_all_tbl q1270))
      exact ⟨(a, b), fun q hq => by cases Option.some.inj hq; exact h⟩
    | 8 =>
      obtain ⟨a, b, h⟩ := u_known (C := RX17) (T := TX17) (N := 3) (n := 3) hts (fun w h => lw_all_tbl (in_X17 w h)) (hts _ (lw_all_tbl q1406))
      exact ⟨(a, b), fun q hq => by cases Option.some.inj hq; exact h⟩
    | 9 =>
      obtain ⟨a, b, h⟩ := u_known (C := RX4) (T := TX4) (N := 4) (n := 4) hts (fun w h => lw_all_tbl (in_X4 w h)) (hts _ (lw_all_tbl q216))
      exact ⟨(a, b), fun q hq => by cases Option.some.inj hq; exact h⟩
    | 10 =>
      obtain ⟨a, b, h⟩ := u_known (C := RX3) (T := TX3) (N := 3) (n := 3) hts (fun w h => lw_all_tbl (in_X3 w h)) (hts _ (lw_all_tbl q208))
      exact ⟨(a, b), fun q hq => by cases Option.some.inj hq; exact h⟩
    | 11 =>
      obtain ⟨a, b, h⟩ := u_known (C := RX14) (T := TX14) (N := 4) (n := 4) hts (fun w h => lw_all_tbl (in_X14 w h)) (hts _ (lw_all_tbl q1311))
      exact ⟨(a, b), fun q hq => by cases Option.some.inj hq; exact h⟩
    | 12 =>
      obtain ⟨a, b, h⟩ := u_known (C := RX15) (T := TX15) (N := 3) (n := 3) hts (fun w h => lw_all_tbl (in_X15 w h)) (hts _ (lw_all_tbl q1341))
      exact ⟨(a, b), fun q hq => by cases Option.some.inj hq; exact h⟩
    | 13 =>
      obtain ⟨a, b, h⟩ := u_known (C := RX16) (T := TX16) (N := 4) (n := 4) hts (fun w h => lw_all_tbl (in_X16 w h)) (hts _ (lw_all_tbl q1371))
      exact ⟨(a, b), fun q hq => by cases Option.some.inj hq; exact h⟩
    | 14 =>
      obtain ⟨a, b, h⟩ := u_known (C := RX9) (T := TX9) (N := 7) (n := 7) hts (fun w h => lw_all_tbl (in_X9 w h)) (hts _ (lw_all_tbl q419))
      exact ⟨(a, b), fun q hq => by cases Option.some.inj hq; exact h⟩
    | 15 =>
      obtain ⟨a, b, h⟩ := u_known (C := RX8) (T := TX8r) (N := 1) (n := 7) hts (fun w h => lw_all_tbl (in_X8r w h)) (hts _ (lw_all_tbl q344))
      exact ⟨(a, b), fun q hq => by cases Option.some.inj hq; exact h⟩
    | 16 =>
      obtain ⟨a, b, h⟩ := u_known (C := RX10) (T := TX10r) (N := 1) (n := 7) hts (fun w h => lw_all_tbl (in_X10r w h)) (hts _ (lw_all_tbl q477))
      exact ⟨(a, b), fun q hq => by cases Option.some.inj hq; exact h⟩
    | 17 =>
      obtain ⟨a, b, h⟩ := u_known (C := RX20) (T := TX20) (N := 2) (n := 2) hts (fun w h => lw_all_tbl (in_X20 w h)) (hts _ (lw_all_tbl q1832))
      exact ⟨(a, b), fun q hq => by cases Option.some.inj hq; exact h⟩
    | 18 =>
      obtain ⟨a, b, h⟩ := u_known (C := RJ5) (T := TJ5) (N := 8) (n := 8) hts (fun w h => lw_all_tbl (in_J5 w h)) (hts _ (lw_all_tbl q1798))
      exact ⟨(a, b), fun q hq => by cases Option.some.inj hq; exact h⟩
    | 19 =>
      obtain ⟨a, b, h⟩ := u_known (C := RJ6) (T := TJ6) (N := 12) (n := 12) hts (fun w h => lw_all_tbl (in_J6 w h)) (hts _ (lw_all_tbl q503))
      exact ⟨(a, b), fun q hq => by cases Option.some.inj hq; exact h⟩
    | 20 =>
      obtain ⟨a, b, h⟩ := u_known (C := RJ9) (T := TJ9) (N := 4) (n := 4) hts (fun w h => lw_all_tbl (in_J9 w h)) (hts _ (lw_all_tbl q903))
      exact ⟨(a, b), fun q hq => by cases Option.some.inj hq; exact h⟩
    | 21 =>
      obtain ⟨a, b, h⟩ := u_known (C := RJ10) (T := TJ10) (N := 6) (n := 6) hts (fun w h => lw_all_tbl (in_J10 w h)) (hts _ (lw_all_tbl q848))
      exact ⟨(a, b), fun q hq => by cases Option.some.inj hq; exact h⟩
    | 22 =>
      obtain ⟨a, b, h⟩ := u_known (C := RJ14) (T := TJ14) (N := 2) (n := 2) hts (fun w h => lw_all_tbl (in_J14 w h)) (hts _ (lw_all_tbl q1030))
      exact ⟨(a, b), fun q hq => by cases Option.some.inj hq; exact h⟩
    | 23 =>
      obtain ⟨a, b, h⟩ := u_known (C := RJ19) (T := TJ19) (N := 5) (n := 5) hts (fun w h => lw_all_tbl (in_J19 w h)) (hts _ (lw_all_tbl q1115))
      exact ⟨(a, b), fun q hq => by cases Option.some.inj hq; exact h⟩
    | 24 =>
      obtain ⟨a, b, h⟩ := u_known (C := RJ23) (T := TJ23) (N := 1) (n := 1) hts (fun w h => lw_all_tbl (in_J23 w h)) (hts _ (lw_all_tbl q1792))
      exact ⟨(a, b), fun q hq => by cases Option.some.inj hq; exact h⟩
    | 25 =>
      obtain ⟨a, b, h⟩ := u_known (C := RX6) (T := TX6) (N := 54) (n := 54) hts (fun w h => lw_all_tbl (in_X6 w h)) (hts _ (lw_all_tbl q2104))
      exact ⟨(a, b), fun q hq => by cases Option.some.inj hq; exact h⟩
    | k + 26 => exact ⟨(0, fun _ => 0), fun q hq => by cases hq⟩
  exact ⟨(fun c => (Classical.choose (key c)).1, fun c => (Classical.choose (key c)).2), fun c q h => Classical.choose_spec (key c) q h⟩
theorem st_arr (hts : ∀ w ∈ lw_tbl, w.before args s = true) : ∃ ar : Nat → ClassId, ∀ t, t ∈ tyT → ArrOfT s (ar t) (tyA t) ∧ va_RA s (ar t) (tyA t) := by
  have key : ∀ t : Nat, ∃ c : ClassId, t ∈ tyT → ArrOfT s c (tyA t) ∧ va_RA s c (tyA t) := by
    intro t
    by_cases ht : t ∈ tyT
    rotate_left
    · exact ⟨0, fun h => (ht h).elim⟩
    simp only [tyT, List.mem_cons, List.not_mem_nil, or_false] at ht
    rcases ht with e | e | e | e | e | e | e | e | e | e | e <;> subst e
    · obtain ⟨c, k, comp, h1, h2, h3⟩ := Cond.arrayClass_spec (hts _ (lw_all_tbl q261))
      exact ⟨c, fun _ => ⟨fun n z => ⟨fun k h => (by cases h), k, h2, comp, h3⟩, h1⟩⟩
    · obtain ⟨c, k, comp, h1, h2, h3⟩ := Cond.arrayClass_spec (hts _ (lw_all_tbl q259))
      exact ⟨c, fun _ => ⟨fun n z => ⟨fun k h => (by cases h), k, h2, comp, h3⟩, h1⟩⟩
    · obtain ⟨c, k, comp, h1, h2, h3⟩ := Cond.arrayClass_spec (hts _ (lw_all_tbl q260))
      exact ⟨c, fun _ => ⟨fun n z => ⟨fun k h => (by cases h), k, h2, comp, h3⟩, h1⟩⟩
    · obtain ⟨comp, c, k, h1, -, h2, h3, h4⟩ := Cond.arrayOver_spec (hts _ q1293)
      exact ⟨c, fun _ => ⟨fun n z => ⟨fun k h => (by cases h), k, h2, comp, h3⟩, ⟨k, comp, h2, h3, h1, h4⟩⟩⟩
    · obtain ⟨comp, c, k, h1, -, h2, h3, h4⟩ := Cond.arrayOver_spec (hts _ q222)
      exact ⟨c, fun _ => ⟨fun n z => ⟨fun k h => (by cases h), k, h2, comp, h3⟩, ⟨k, comp, h2, h3, h1, h4⟩⟩⟩
    · obtain ⟨comp, c, k, h1, -, h2, h3, h4⟩ := Cond.arrayOver_spec (hts _ q224)
      exact ⟨c, fun _ => ⟨fun n z => ⟨fun k h => (by cases h), k, h2, comp, h3⟩, ⟨k, comp, h2, h3, h1, h4⟩⟩⟩
    · obtain ⟨comp, c, k, h1, -, h2, h3, h4⟩ := Cond.arrayOver_spec (hts _ q263)
      exact ⟨c, fun _ => ⟨fun n z => ⟨fun k h => (by cases h), k, h2, comp, h3⟩, ⟨k, comp, h2, h3, h1, h4⟩⟩⟩
    · obtain ⟨comp, c, k, h1, -, h2, h3, h4⟩ := Cond.arrayOver_spec (hts _ q264)
      exact ⟨c, fun _ => ⟨fun n z => ⟨fun k h => (by cases h), k, h2, comp, h3⟩, ⟨k, comp, h2, h3, h1, h4⟩⟩⟩
    · obtain ⟨comp, c, k, h1, -, h2, h3, h4⟩ := Cond.arrayOver_spec (hts _ q831)
      exact ⟨c, fun _ => ⟨fun n z => ⟨fun k h => (by cases h), k, h2, comp, h3⟩, ⟨k, comp, h2, h3, h1, h4⟩⟩⟩
    · obtain ⟨comp, c, k, h1, -, h2, h3, h4⟩ := Cond.arrayOver_spec (hts _ q1317)
      exact ⟨c, fun _ => ⟨fun n z => ⟨fun k h => (by cases h), k, h2, comp, h3⟩, ⟨k, comp, h2, h3, h1, h4⟩⟩⟩
    · obtain ⟨comp, c, k, h1, -, h2, h3, h4⟩ := Cond.arrayOver_spec (hts _ q1319)
      exact ⟨c, fun _ => ⟨fun n z => ⟨fun k h => (by cases h), k, h2, comp, h3⟩, ⟨k, comp, h2, h3, h1, h4⟩⟩⟩
  exact ⟨fun t => Classical.choose (key t), fun t ht => Classical.choose_spec (key t) ht⟩
end ST
section ST2
variable {s : State} {args : Array Value}
theorem st_site {x : MethodName} {pc index : Nat} {σ : Lambda.Shape} (h : (Jvm.Cond.lambdaSite x pc index σ).before args s = true) : ∃ (c : ClassId) (one : Option Nat), lsP (.lambdaSite x pc index σ) c one s ∧ (σ.captured = [] → ∃ (a : Nat) (cell : Cell), one = some a ∧ s.heap[a]? = some cell ∧ cell.cls = c ∧ cell.vm = .none) ∧ (σ.captured ≠ [] → one = none) := by
  obtain ⟨c, one, h1⟩ := Cond.lambdaSite_spec h
  refine ⟨c, one, LSite.of h1, fun e => ?_, fun e => ?_⟩
  · obtain ⟨m9, k9, cf9, i9, p9, l9, -, -, -, -, -, -, -, -, hl⟩ := State.lambdaAt?_spec h1
    rcases hl with ⟨a, cell, -, e2, -, e4, e5, e6, -⟩ | ⟨-, -, e3⟩
    · exact ⟨a, cell, e2, e4, e5, e6⟩
    · exact (e3 e).elim
  · obtain ⟨m9, k9, cf9, i9, p9, l9, -, -, -, -, -, -, -, -, hl⟩ := State.lambdaAt?_spec h1
    rcases hl with ⟨a, cell, -, -, e3, -⟩ | ⟨-, e2, -⟩
    · exact (e e3).elim
    · exact e2
theorem st_lam (hs : ∀ q, q ∈ siteL → q.2.before args s = true) : ∃ (lam : Nat → ClassId) (lk : Nat → Nat), (∀ q, q ∈ siteL → lsP q.2 (lam q.1) (if q.1 ∈ siteC then some (lk q.1) else none) s) ∧ ∀ i, i ∈ siteC → ∃ cell : Cell, s.heap[lk i]? = some cell ∧ cell.cls = lam i ∧ cell.vm = .none := by
  have key : ∀ i : Nat, ∃ p : ClassId × Nat, (∀ w, (i, w) ∈ siteL → lsP w p.1 (if i ∈ siteC then some p.2 else none) s) ∧ (i ∈ siteC → ∃ cell : Cell, s.heap[p.2]? = some cell ∧ cell.cls = p.1 ∧ cell.vm = .none) := by
    intro i
    by_cases hi : i ∈ [1, 2, 3, 4, 5, 6, 7, 8, 9, 10, 11]
    rotate_left
    · exact ⟨(0, 0), fun w hw => by simp only [siteL, List.mem_cons, List.not_mem_nil, or_false, Prod.mk.injEq] at hw; simp only [List.mem_cons, List.not_mem_nil, or_false] at hi; omega, fun hc => by simp only [siteC, List.mem_cons, List.not_mem_nil, or_false] at hc; simp only [List.mem_cons, List.not_mem_nil, or_false] at hi; omega⟩
    simp only [List.mem_cons, List.not_mem_nil, or_false] at hi
    rcases hi with e | e | e | e | e | e | e | e | e | e | e <;> subst e
    · obtain ⟨c, one, h1, h2, h3⟩ := st_site (hs (1, siteWord_1_1) (.head _))
      obtain ⟨a, cell, e1, e2, e3, e4⟩ := h2 rfl
      rw [e1] at h1
      exact ⟨(c, a), (fun w hw => by simp only [siteL, List.mem_cons, List.not_mem_nil, or_false, Prod.mk.injEq] at hw; rcases hw with ⟨e, hw⟩ | ⟨e, hw⟩ | ⟨e, hw⟩ | ⟨e, hw⟩ | ⟨e, hw⟩ | ⟨e, hw⟩ | ⟨e, hw⟩ | ⟨e, hw⟩ | ⟨e, hw⟩ | ⟨e, hw⟩ | ⟨e, hw⟩ <;> first | (subst hw; exact h1) | (cases e)), fun _ => ⟨cell, e2, e3, e4⟩⟩
    · obtain ⟨c, one, h1, h2, h3⟩ := st_site (hs (2, siteWord_1_2) (.tail _ (.head _)))
      rw [h3 (by decide)] at h1
      exact ⟨(c, 0), (fun w hw => by simp only [siteL, List.mem_cons, List.not_mem_nil, or_false, Prod.mk.injEq] at hw; rcases hw with ⟨e, hw⟩ | ⟨e, hw⟩ | ⟨e, hw⟩ | ⟨e, hw⟩ | ⟨e, hw⟩ | ⟨e, hw⟩ | ⟨e, hw⟩ | ⟨e, hw⟩ | ⟨e, hw⟩ | ⟨e, hw⟩ | ⟨e, hw⟩ <;> first | (subst hw; exact h1) | (cases e)), fun hc => absurd hc (by decide)⟩
    · obtain ⟨c, one, h1, h2, h3⟩ := st_site (hs (3, siteWord_1_3) (.tail _ (.tail _ (.head _))))
      rw [h3 (by decide)] at h1
      exact ⟨(c, 0), (fun w hw => by simp only [siteL, List.mem_cons, List.not_mem_nil, or_false, Prod.mk.injEq] at hw; rcases hw with ⟨e, hw⟩ | ⟨e, hw⟩ | ⟨e, hw⟩ | ⟨e, hw⟩ | ⟨e, hw⟩ | ⟨e, hw⟩ | ⟨e, hw⟩ | ⟨e, hw⟩ | ⟨e, hw⟩ | ⟨e, hw⟩ | ⟨e, hw⟩ <;> first | (subst hw; exact h1) | (cases e)), fun hc => absurd hc (by decide)⟩
    · obtain ⟨c, one, h1, h2, h3⟩ := st_site (hs (4, siteWord_1_4) (.tail _ (.tail _ (.tail _ (.head _)))))
      obtain ⟨a, cell, e1, e2, e3, e4⟩ := h2 rfl
      rw [e1] at h1
      exact ⟨(c, a), (fun w hw => by simp only [siteL, List.mem_cons, List.not_mem_nil, or_false, Prod.mk.injEq] at hw; rcases hw with ⟨e, hw⟩ | ⟨e, hw⟩ | ⟨e, hw⟩ | ⟨e, hw⟩ | ⟨e, hw⟩ | ⟨e, hw⟩ | ⟨e, hw⟩ | ⟨e, hw⟩ | ⟨e, hw⟩ | ⟨e, hw⟩ | ⟨e, hw⟩ <;> first | (subst hw; exact h1) | (cases e)), fun _ => ⟨cell, e2, e3, e4⟩⟩
    · obtain ⟨c, one, h1, h2, h3⟩ := st_site (hs (5, siteWord_1_5) (.tail _ (.tail _ (.tail _ (.tail _ (.head _))))))
      obtain ⟨a, cell, e1, e2, e3, e4⟩ := h2 rfl
      rw [e1] at h1
      exact ⟨(c, a), (fun w hw => by simp only [siteL, List.mem_cons, List.not_mem_nil, or_false, Prod.mk.injEq] at hw; rcases hw with ⟨e, hw⟩ | ⟨e, hw⟩ | ⟨e, hw⟩ | ⟨e, hw⟩ | ⟨e, hw⟩ | ⟨e, hw⟩ | ⟨e, hw⟩ | ⟨e, hw⟩ | ⟨e, hw⟩ | ⟨e, hw⟩ | ⟨e, hw⟩ <;> first | (subst hw; exact h1) | (cases e)), fun _ => ⟨cell, e2, e3, e4⟩⟩
    · obtain ⟨c, one, h1, h2, h3⟩ := st_site (hs (6, siteWord_1_6) (.tail _ (.tail _ (.tail _ (.tail _ (.tail _ (.head _)))))))
      rw [h3 (by decide)] at h1
      exact ⟨(c, 0), (fun w hw => by simp only [siteL, List.mem_cons, List.not_mem_nil, or_false, Prod.mk.injEq] at hw; rcases hw with ⟨e, hw⟩ | ⟨e, hw⟩ | ⟨e, hw⟩ | ⟨e, hw⟩ | ⟨e, hw⟩ | ⟨e, hw⟩ | ⟨e, hw⟩ | ⟨e, hw⟩ | ⟨e, hw⟩ | ⟨e, hw⟩ | ⟨e, hw⟩ <;> first | (subst hw; exact h1) | (cases e)), fun hc => absurd hc (by decide)⟩
    · obtain ⟨c, one, h1, h2, h3⟩ := st_site (hs (7, siteWord_1_7) (.tail _ (.tail _ (.tail _ (.tail _ (.tail _ (.tail _ (.head _))))))))
      rw [h3 (by decide)] at h1
      exact ⟨(c, 0), (fun w hw => by simp only [siteL, List.mem_cons, List.not_mem_nil, or_false, Prod.mk.injEq] at hw; rcases hw with ⟨e, hw⟩ | ⟨e, hw⟩ | ⟨e, hw⟩ | ⟨e, hw⟩ | ⟨e, hw⟩ | ⟨e, hw⟩ | ⟨e, hw⟩ | ⟨e, hw⟩ | ⟨e, hw⟩ | ⟨e, hw⟩ | ⟨e, hw⟩ <;> first | (subst hw; exact h1) | (cases e)), fun hc => absurd hc (by decide)⟩
    · obtain ⟨c, one, h1, h2, h3⟩ := st_site (hs (8, siteWord_1_8) (.tail _ (.tail _ (.tail _ (.tail _ (.tail _ (.tail _ (.tail _ (.head _)))))))))
      rw [h3 (by decide)] at h1
      exact ⟨(c, 0), (fun w hw => by simp only [siteL, List.mem_cons, List.not_mem_nil, or_false, Prod.mk.injEq] at hw; rcases hw with ⟨e, hw⟩ | ⟨e, hw⟩ | ⟨e, hw⟩ | ⟨e, hw⟩ | ⟨e, hw⟩ | ⟨e, hw⟩ | ⟨e, hw⟩ | ⟨e, hw⟩ | ⟨e, hw⟩ | ⟨e, hw⟩ | ⟨e, hw⟩ <;> first | (subst hw; exact h1) | (cases e)), fun hc => absurd hc (by decide)⟩
    · obtain ⟨c, one, h1, h2, h3⟩ := st_site (hs (9, siteWord_1_9) (.tail _ (.tail _ (.tail _ (.tail _ (.tail _ (.tail _ (.tail _ (.tail _ (.head _))))))))))
      rw [h3 (by decide)] at h1
      exact ⟨(c, 0), (fun w hw => by simp only [siteL, List.mem_cons, List.not_mem_nil, or_false, Prod.mk.injEq] at hw; rcases hw with ⟨e, hw⟩ | ⟨e, hw⟩ | ⟨e, hw⟩ | ⟨e, hw⟩ | ⟨e, hw⟩ | ⟨e, hw⟩ | ⟨e, hw⟩ | ⟨e, hw⟩ | ⟨e, hw⟩ | ⟨e, hw⟩ | ⟨e, hw⟩ <;> first | (subst hw; exact h1) | (cases e)), fun hc => absurd hc (by decide)⟩
    · obtain ⟨c, one, h1, h2, h3⟩ := st_site (hs (10, siteWord_1_10) (.tail _ (.tail _ (.tail _ (.tail _ (.tail _ (.tail _ (.tail _ (.tail _ (.tail _ (.head _)))))))))))
      rw [h3 (by decide)] at h1
      exact ⟨(c, 0), (fun w hw => by simp only [siteL, List.mem_cons, List.not_mem_nil, or_false, Prod.mk.injEq] at hw; rcases hw with ⟨e, hw⟩ | ⟨e, hw⟩ | ⟨e, hw⟩ | ⟨e, hw⟩ | ⟨e, hw⟩ | ⟨e, hw⟩ | ⟨e, hw⟩ | ⟨e, hw⟩ | ⟨e, hw⟩ | ⟨e, hw⟩ | ⟨e, hw⟩ <;> first | (subst hw; exact h1) | (cases e)), fun hc => absurd hc (by decide)⟩
    · obtain ⟨c, one, h1, h2, h3⟩ := st_site (hs (11, siteWord_1_11) (.tail _ (.tail _ (.tail _ (.tail _ (.tail _ (.tail _ (.tail _ (.tail _ (.tail _ (.tail _ (.head _))))))))))))
      obtain ⟨a, cell, e1, e2, e3, e4⟩ := h2 rfl
      rw [e1] at h1
      exact ⟨(c, a), (fun w hw => by simp only [siteL, List.mem_cons, List.not_mem_nil, or_false, Prod.mk.injEq] at hw; rcases hw with ⟨e, hw⟩ | ⟨e, hw⟩ | ⟨e, hw⟩ | ⟨e, hw⟩ | ⟨e, hw⟩ | ⟨e, hw⟩ | ⟨e, hw⟩ | ⟨e, hw⟩ | ⟨e, hw⟩ | ⟨e, hw⟩ | ⟨e, hw⟩ <;> first | (subst hw; exact h1) | (cases e)), fun _ => ⟨cell, e2, e3, e4⟩⟩
  refine ⟨fun i => (Classical.choose (key i)).1, fun i => (Classical.choose (key i)).2, fun q hq => (Classical.choose_spec (key q.1)).1 q.2 hq, fun i hi => (Classical.choose_spec (key i)).2 hi⟩
end ST2
