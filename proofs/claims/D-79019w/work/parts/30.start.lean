/-! AT THE LAW's ENTRY: the tables' facts and the statics -/
theorem g_known {s : State} {args : Array Value} (hts : ∀ w ∈ lw_all, w.before args s = true) : ∃ D : va_G, ∀ (c : Nat) (q : vw_C), gCl[c]? = some q → u_Kn s q.1 q.2.1 q.2.2 (D.1 c) (D.2 c) := by
  have h : ∀ c : Nat, ∃ (cC : ClassId) (iS : Nat → Nat), ∀ q : vw_C, gCl[c]? = some q → u_Kn s q.1 q.2.1 q.2.2 cC iS := by
    intro c
    match c with
    | 0 =>
      obtain ⟨cC, iS, h⟩ := u_known hts in_X0 (hts _ q154)
      exact ⟨cC, iS, fun q hq => by cases hq; exact h⟩
    | 1 =>
      obtain ⟨cC, iS, h⟩ := u_known hts in_X1 (hts _ q726)
      exact ⟨cC, iS, fun q hq => by cases hq; exact h⟩
    | 2 =>
      obtain ⟨cC, iS, h⟩ := u_known hts in_X2 (hts _ q1589)
      exact ⟨cC, iS, fun q hq => by cases hq; exact h⟩
    | 3 =>
      obtain ⟨cC, iS, h⟩ := u_known hts in_X3 (hts _ q150)
      exact ⟨cC, iS, fun q hq => by cases hq; exact h⟩
    | 4 =>
      obtain ⟨cC, iS, h⟩ := u_known hts in_X4 (hts _ q159)
      exact ⟨cC, iS, fun q hq => by cases hq; exact h⟩
    | 5 =>
      obtain ⟨cC, iS, h⟩ := u_known hts in_X5 (hts _ q188)
      exact ⟨cC, iS, fun q hq => by cases hq; exact h⟩
    | 6 =>
      obtain ⟨cC, iS, h⟩ := u_known hts in_X6 (hts _ q242)
      exact ⟨cC, iS, fun q hq => by cases hq; exact h⟩
    | 7 =>
      obtain ⟨cC, iS, h⟩ := u_known hts in_X7 (hts _ q311)
      exact ⟨cC, iS, fun q hq => by cases hq; exact h⟩
    | 8 =>
      obtain ⟨cC, iS, h⟩ := u_known hts in_J2 (hts _ q194)
      exact ⟨cC, iS, fun q hq => by cases hq; exact h⟩
    | 9 =>
      obtain ⟨cC, iS, h⟩ := u_known hts in_X9 (hts _ q354)
      exact ⟨cC, iS, fun q hq => by cases hq; exact h⟩
    | 10 =>
      obtain ⟨cC, iS, h⟩ := u_known hts in_X10 (hts _ q390)
      exact ⟨cC, iS, fun q hq => by cases hq; exact h⟩
    | 11 =>
      obtain ⟨cC, iS, h⟩ := u_known hts in_X11 (hts _ q402)
      exact ⟨cC, iS, fun q hq => by cases hq; exact h⟩
    | 12 =>
      obtain ⟨cC, iS, h⟩ := u_known hts in_X12 (hts _ q422)
      exact ⟨cC, iS, fun q hq => by cases hq; exact h⟩
    | 13 =>
      obtain ⟨cC, iS, h⟩ := u_known hts in_X13 (hts _ q454)
      exact ⟨cC, iS, fun q hq => by cases hq; exact h⟩
    | 14 =>
      obtain ⟨cC, iS, h⟩ := u_known hts in_X14 (hts _ q564)
      exact ⟨cC, iS, fun q hq => by cases hq; exact h⟩
    | 15 =>
      obtain ⟨cC, iS, h⟩ := u_known hts in_X15 (hts _ q580)
      exact ⟨cC, iS, fun q hq => by cases hq; exact h⟩
    | 16 =>
      obtain ⟨cC, iS, h⟩ := u_known hts in_X16 (hts _ q795)
      exact ⟨cC, iS, fun q hq => by cases hq; exact h⟩
    | 17 =>
      obtain ⟨cC, iS, h⟩ := u_known hts in_J2 (hts _ q194)
      exact ⟨cC, iS, fun q hq => by cases hq; exact h⟩
    | 18 =>
      obtain ⟨cC, iS, h⟩ := u_known hts in_X18 (hts _ q874)
      exact ⟨cC, iS, fun q hq => by cases hq; exact h⟩
    | 19 =>
      obtain ⟨cC, iS, h⟩ := u_known hts in_X19 (hts _ q883)
      exact ⟨cC, iS, fun q hq => by cases hq; exact h⟩
    | 20 =>
      obtain ⟨cC, iS, h⟩ := u_known hts in_X20 (hts _ q971)
      exact ⟨cC, iS, fun q hq => by cases hq; exact h⟩
    | 21 =>
      obtain ⟨cC, iS, h⟩ := u_known hts in_X21 (hts _ q996)
      exact ⟨cC, iS, fun q hq => by cases hq; exact h⟩
    | 22 =>
      obtain ⟨cC, iS, h⟩ := u_known hts in_X22 (hts _ q1027)
      exact ⟨cC, iS, fun q hq => by cases hq; exact h⟩
    | 23 =>
      obtain ⟨cC, iS, h⟩ := u_known hts in_X23 (hts _ q1061)
      exact ⟨cC, iS, fun q hq => by cases hq; exact h⟩
    | 24 =>
      obtain ⟨cC, iS, h⟩ := u_known hts in_X24 (hts _ q1093)
      exact ⟨cC, iS, fun q hq => by cases hq; exact h⟩
    | 25 =>
      obtain ⟨cC, iS, h⟩ := u_known hts in_X25 (hts _ q1155)
      exact ⟨cC, iS, fun q hq => by cases hq; exact h⟩
    | 26 =>
      obtain ⟨cC, iS, h⟩ := u_known hts in_X26 (hts _ q1226)
      exact ⟨cC, iS, fun q hq => by cases hq; exact h⟩
    | 27 =>
      obtain ⟨cC, iS, h⟩ := u_known hts in_X27 (hts _ q1343)
      exact ⟨cC, iS, fun q hq => by cases hq; exact h⟩
    | 28 =>
      obtain ⟨cC, iS, h⟩ := u_known hts in_X28 (hts _ q1536)
      exact ⟨cC, iS, fun q hq => by cases hq; exact h⟩
    | k + 29 => exact ⟨(default : Nat), fun _ => 0, fun q hq => by
        have h9 : gCl[k + 29]? = none := List.getElem?_eq_none (by show 29 ≤ k + 29; omega)
        rw [h9] at hq
        cases hq⟩
  exact ⟨(fun c => Classical.choose (h c), fun c => Classical.choose (Classical.choose_spec (h c))), fun c q hq => Classical.choose_spec (Classical.choose_spec (h c)) q hq⟩
theorem g_arrC {s : State} {args : Array Value} {ty : FieldType} (hty : ∀ C, ty ≠ .object C) (h : (Cond.arrayClass ty).before args s = true) : ∃ cA : ClassId, ArrOfT s cA ty ∧ va_RA s cA ty := by
  obtain ⟨c, k, comp, h1, h2, h3⟩ := Cond.arrayClass_spec h
  refine ⟨c, fun n z => ⟨fun k h => (by cases h), k, h2, comp, h3⟩, ?_⟩
  unfold va_RA
  split
  · exact absurd rfl (hty _)
  · exact h1
theorem g_arrO {s : State} {args : Array Value} {C : String} (h : (Cond.arrayOver (.object C)).before args s = true) : ∃ cA : ClassId, ArrOfT s cA (.object C) ∧ va_RA s cA (.object C) := by
  obtain ⟨comp, c, k, h1, -, h2, h3, h4⟩ := Cond.arrayOver_spec h
  exact ⟨c, fun n z => ⟨fun k h => (by cases h), k, h2, comp, h3⟩, k, comp, h2, h3, h1, h4⟩
theorem g_arrs {s : State} {args : Array Value} (hts : ∀ w ∈ lw_tbl, w.before args s = true) : ∃ dA : Nat → ClassId, ∀ (k : Nat) (q : ClassId × FieldType), (gTys dA)[k]? = some q → ArrOfT s q.1 q.2 ∧ va_RA s q.1 q.2 := by
  obtain ⟨a0, h0⟩ := g_arrC (ty := .int) (fun C h => nomatch h) (hts _ (lw_all_tbl q761))
  obtain ⟨a1, h1⟩ := g_arrC (ty := .byte) (fun C h => nomatch h) (hts _ (lw_all_tbl q760))
  obtain ⟨a2, h2⟩ := g_arrO (hts _ q549)
  obtain ⟨a3, h3⟩ := g_arrO (hts _ q724)
  obtain ⟨a4, h4⟩ := g_arrO (hts _ q732)
  obtain ⟨a5, h5⟩ := g_arrO (hts _ q1036)
  obtain ⟨a6, h6⟩ := g_arrO (hts _ q1038)
  refine ⟨fun k => match k with | 0 => a0 | 1 => a1 | 2 => a2 | 3 => a3 | 4 => a4 | 5 => a5 | _ => a6, fun k q hq => ?_⟩
  match k with
  | 0 => cases hq; exact h0
  | 1 => cases hq; exact h1
  | 2 => cases hq; exact h2
  | 3 => cases hq; exact h3
  | 4 => cases hq; exact h4
  | 5 => cases hq; exact h5
  | 6 => cases hq; exact h6
  | k + 7 =>
    have h9 : (gTys (fun k => match k with | 0 => a0 | 1 => a1 | 2 => a2 | 3 => a3 | 4 => a4 | 5 => a5 | _ => a6))[k + 7]? = none := List.getElem?_eq_none (by show 7 ≤ k + 7; omega)
    rw [h9] at hq
    cases hq
theorem g_ref {v : Value} (h : v.isRef = true) : ∃ n : Nat, v = va_rf (gCo n) := by
  cases v with
  | null => exact ⟨0, rfl⟩
  | ref a => exact ⟨a + 1, rfl⟩
  | _ => cases h
theorem gNc_in : gNc.all (fun q => decide (Cond.not (.castable q.1 q.2) ∈ flatC (Jvm.Cond.and given_1 narrow_1))) = true := by decide +kernel
theorem g_start {s : State} {b : Nat} (hts : ∀ w ∈ lw_tbl, w.before #[Value.ref b] s = true) (hpre : (Jvm.Cond.and given_1 narrow_1).before #[Value.ref b] s = true) (k0 k1 : Nat) : ∃ (D : va_G) (dA : Nat → ClassId) (K : Nat → Nat), gK D dA (fun q => s.heap.size ≤ q) K s ∧ K 0 = k0 ∧ K 1 = k1 ∧ K 5 < s.heap.size ∧ K 2 < s.heap.size ∧ K 3 < s.heap.size ∧ K 4 < s.heap.size ∧ K 2 ≠ K 3 ∧ K 2 ≠ K 4 ∧ K 3 ≠ K 4 := by
  have hta : ∀ w ∈ lw_all, w.before #[Value.ref b] s = true := fun w h => hts w (lw_all_tbl h)
  have hs := flat_of_before _ hpre
  obtain ⟨D, hD⟩ := g_known hta
  obtain ⟨dA, hdA⟩ := g_arrs hts
  have hA : ∀ a : Nat, a < s.heap.size → ¬ (s.heap.size ≤ a) := fun a h => Nat.not_le_of_lt h
  have x2 : (Cond.exactly (.static "WorkflowEngine$Outcome" "RUNS" "LWorkflowEngine$Outcome;") "WorkflowEngine$Outcome$1").before #[Value.ref b] s = true := hs _ (by decide +kernel)
  have x3 : (Cond.exactly (.static "WorkflowEngine$Outcome" "ENDS" "LWorkflowEngine$Outcome;") "WorkflowEngine$Outcome$2").before #[Value.ref b] s = true := hs _ (by decide +kernel)
  have x4 : (Cond.exactly (.static "WorkflowEngine$Outcome" "BREAKS" "LWorkflowEngine$Outcome;") "WorkflowEngine$Outcome$3").before #[Value.ref b] s = true := hs _ (by decide +kernel)
  have x5 : (Cond.exactly (.static "java/util/ArrayList" "DEFAULTCAPACITY_EMPTY_ELEMENTDATA" "[Ljava/lang/Object;") "[Ljava/lang/Object;").before #[Value.ref b] s = true := hs _ (by decide +kernel)
  have y5 : (Cond.arrayOf (.static "java/util/ArrayList" "DEFAULTCAPACITY_EMPTY_ELEMENTDATA" "[Ljava/lang/Object;") (.object "java/lang/Object")).before #[Value.ref b] s = true := hs _ (by decide +kernel)
  have z5 : (Cond.eq (.length (.static "java/util/ArrayList" "DEFAULTCAPACITY_EMPTY_ELEMENTDATA" "[Ljava/lang/Object;")) (.int 0)).before #[Value.ref b] s = true := hs _ (by decide +kernel)
  have x6 : (Cond.isRef (.static "java/lang/Throwable" "UNASSIGNED_STACK" "[Ljava/lang/StackTraceElement;")).before #[Value.ref b] s = true := hs _ (by decide +kernel)
  have x7 : (Cond.isRef (.static "java/lang/Throwable" "SUPPRESSED_SENTINEL" "Ljava/util/List;")).before #[Value.ref b] s = true := hs _ (by decide +kernel)
  have n1 : (Cond.not (.eq (.static "WorkflowEngine$Outcome" "ENDS" "LWorkflowEngine$Outcome;") (.static "WorkflowEngine$Outcome" "RUNS" "LWorkflowEngine$Outcome;"))).before #[Value.ref b] s = true := hs _ (by decide +kernel)
  have n2 : (Cond.not (.eq (.static "WorkflowEngine$Outcome" "ENDS" "LWorkflowEngine$Outcome;") (.static "WorkflowEngine$Outcome" "BREAKS" "LWorkflowEngine$Outcome;"))).before #[Value.ref b] s = true := hs _ (by decide +kernel)
  have n3 : (Cond.not (.eq (.static "WorkflowEngine$Outcome" "RUNS" "LWorkflowEngine$Outcome;") (.static "WorkflowEngine$Outcome" "BREAKS" "LWorkflowEngine$Outcome;"))).before #[Value.ref b] s = true := hs _ (by decide +kernel)
  obtain ⟨a2, c2, cell2, kk2, e2, f2, g2, -, i2, j2, -⟩ := Cond.exactly_spec (args := #[Value.ref b]) (first := s) (o := none) (s := s) (idx := []) x2
  obtain ⟨a3, c3, cell3, kk3, e3, f3, g3, -, i3, j3, -⟩ := Cond.exactly_spec (args := #[Value.ref b]) (first := s) (o := none) (s := s) (idx := []) x3
  obtain ⟨a4, c4, cell4, kk4, e4, f4, g4, -, i4, j4, -⟩ := Cond.exactly_spec (args := #[Value.ref b]) (first := s) (o := none) (s := s) (idx := []) x4
  obtain ⟨a5, c5, cell5, kk5, e5, f5, g5, -, i5, j5, -⟩ := Cond.exactly_spec (args := #[Value.ref b]) (first := s) (o := none) (s := s) (idx := []) x5
  obtain ⟨v6, e6, r6⟩ := Cond.isRef_spec (args := #[Value.ref b]) (first := s) (o := none) (s := s) (idx := []) x6
  obtain ⟨v7, e7, r7⟩ := Cond.isRef_spec (args := #[Value.ref b]) (first := s) (o := none) (s := s) (idx := []) x7
  obtain ⟨m6, rfl⟩ := g_ref r6
  obtain ⟨m7, rfl⟩ := g_ref r7
  have l2 := (Array.getElem?_eq_some_iff.mp g2).1
  have l3 := (Array.getElem?_eq_some_iff.mp g3).1
  have l4 := (Array.getElem?_eq_some_iff.mp g4).1
  have l5 := (Array.getElem?_eq_some_iff.mp g5).1
  obtain ⟨mi, hmi⟩ := va_Mi.of (C := "[Ljava/lang/Object;") (args := #[Value.ref b]) (s := s) (hs _ (by decide +kernel))
  refine ⟨D, dA, fun k => match k with | 0 => k0 | 1 => k1 | 2 => a2 | 3 => a3 | 4 => a4 | 5 => a5 | 6 => m6 | 7 => m7 | _ => mi, ⟨⟨hD, hdA⟩, ?_, ?_, ?_, ⟨?_, ?_, ?_, ?_, ?_, ?_⟩, ?_, ?_, ?_, hmi, ?_⟩, rfl, rfl, l5, l2, l3, l4, ?_, ?_, ?_⟩
  · intro w hw
    have h1 := List.all_eq_true.mp gNw_good w hw
    have h2 := hts _ (gNw_tbl w hw)
    cases w <;> first | exact va_Nw.of rfl h2 | (simp [gNw_ok] at h1)
  · intro C hC
    simp only [gAO, List.mem_cons, List.not_mem_nil, or_false] at hC
    rcases hC with rfl | rfl | rfl | rfl | rfl
    · exact va_AO.of (hts _ q549)
    · exact va_AO.of (hts _ q724)
    · exact va_AO.of (hts _ q732)
    · exact va_AO.of (hts _ q1036)
    · exact va_AO.of (hts _ q1038)
  · intro q hq
    exact va_Nc.of (hs _ (List.all_eq_true.mp gNc_in q hq |> of_decide_eq_true))
  · exact va_Zof (hts _ q955) (hta _ q123) e2 hA
  · exact va_Zof (hts _ q948) (hta _ q123) e3 hA
  · exact va_Zof (hts _ q957) (hta _ q123) e4 hA
  · exact va_Zof (hts _ q206) (hta _ q99) e5 hA
  · exact va_Zof (hts _ q266) (hta _ q100) e6 hA
  · exact va_Zof (hts _ q268) (hta _ q100) e7 hA
  · exact va_Oof x2 e2 hA
  · exact va_Oof x3 e3 hA
  · exact va_Oof x4 e4 hA
  · refine ⟨cell5, g5, (Cond.arrayOf_spec (args := #[Value.ref b]) (first := s) (o := none) (s := s) (idx := []) y5 e5 g5).1, ?_, hA _ l5⟩
    have hev : (Term.length (.static "java/util/ArrayList" "DEFAULTCAPACITY_EMPTY_ELEMENTDATA" "[Ljava/lang/Object;")).eval #[Value.ref b] s none [] s = (s.arrayAt? a5).bind (fun c => if c.slots.size < 2 ^ 31 then some (.int c.slots.size.toInt32) else none) := by
      show ((Term.static "java/util/ArrayList" "DEFAULTCAPACITY_EMPTY_ELEMENTDATA" "[Ljava/lang/Object;").eval #[Value.ref b] s none [] s).bind (fun x => match x with | .ref a => (s.arrayAt? a).bind (fun c => if c.slots.size < 2 ^ 31 then some (Value.int c.slots.size.toInt32) else none) | _ => none) = _
      rw [e5]
      rfl
    have h9 := z5
    simp only [Cond.before, Cond.holds, Cond.value, hev] at h9
    cases harr : s.arrayAt? a5 with
    | none => simp [harr, Term.eval] at h9
    | some cl =>
      obtain ⟨q1, -, -, -⟩ := State.arrayAt?_spec harr
      have hcl : cl = cell5 := Option.some.inj (q1.symm.trans g5)
      subst hcl
      by_cases hn : cl.slots.size < 2 ^ 31
      · simp [harr, Term.eval, hn] at h9
        have h8 := (Int32.ofNat_le_ofNat hn (by decide)).mp (show Int32.ofNat cl.slots.size ≤ Int32.ofNat 0 from by rw [show Int32.ofNat cl.slots.size = 0 from h9]; decide)
        omega
      · simp [harr, Term.eval, hn] at h9
  · intro h
    have h9 := n1
    simp only [Cond.before, Cond.holds, Cond.value, e2, e3, (show a2 = a3 from h)] at h9
    simp at h9
  · intro h
    have h9 := n3
    simp only [Cond.before, Cond.holds, Cond.value, e2, e4, (show a2 = a4 from h)] at h9
    simp at h9
  · intro h
    have h9 := n2
    simp only [Cond.before, Cond.holds, Cond.value, e3, e4, (show a3 = a4 from h)] at h9
    simp at h9
