/-! Outcome.isOver on the three constants: its classes are not said to be initialised, so no contract: the call is walked into -/
def gOver (w : gw) (b : Nat) : Option Int32 := match gCls w b with
  | some c => if c = 101 then some 0 else if c = 102 then some 1 else if c = 103 then some 1 else none
  | none => none
theorem steps_weaken {tb : Tables} {e : Env} {x : Frame} {below : List Frame} {s s' : State} (h : Steps tb e (x :: below) s s') : Steps tb e below s s' := by
  obtain ⟨n, h1, h2⟩ := h
  exact ⟨n, h1, fun k hk => Within.weaken (mid := [x]) (h2 k hk)⟩
/-- a callee that is walked into: it is 'iconst k; ireturn' -/
theorem g_leafBack {l : Launch} {R : Room} {p : Program} {e : Env} {below : List Frame} {s : State} {sargs : Array Value} {y : MethodName} {bytes : ByteArray} {maxL : Nat} {k : Int} {v : Int32} (hexec : p.tables.exec = Jvm.exec) (hy : plainFor y = true)
    (hcode : (Cond.code y bytes maxL (some .boolean)).before sargs s = true) (hz : narrow .boolean (.int v) = .int v) (hk : Int32.ofInt k = v) (d0 : decode bytes 0 = .ok (.iconst k, 1)) (d1 : decode bytes 1 = .ok (.ireturn, 1))
    (hf : 1 ≤ R.frames) (hl : 8 + (maxL + 11) ≤ R.locals) : Back l R p e below s sargs y 3 8 (fun A _ => A.cells ≤ R.cells ∧ A.slots ≤ R.slots) (fun A _ o B => o = some (.int v) ∧ B.U.heap = A.U.heap ∧ B.locs = A.locs ∧ B.cells = A.cells ∧ B.slots = A.slots) := by
  intro m meth c A g ig mk a X hg hsize hdg hW hn hp
  obtain ⟨U, Ls, c0, s0⟩ := A
  dsimp only [Pt.U, Pt.locs, Pt.cells, Pt.slots] at X hn hp ⊢
  have hw : (Cond.code y bytes maxL (some .boolean)).before a U = true := word_at X.warmed (Or.inl (by first | rfl | simp [Cond.onTables, Cond.keeps, Cond.steady])) hcode
  obtain ⟨methY, cY, hmY, hcY, hbY, hlY, hrY, hlkY, -, -⟩ := Cond.code_spec hn hw
  have hpl : U.plainMethod mk := State.plainMethod.of_named hy hn hmY
  obtain ⟨Y, hin⟩ := X.into hg hsize hdg a (R' := { frames := 0, cells := 0, slots := 0, locals := 0 }) hmY hcY hlkY hpl (by show 0 + 1 ≤ _; omega) (by show _ + (cY.maxLocals + 11) + 0 ≤ _; rw [hlY]; omega) (by show c0 + 0 ≤ _; omega) (by show s0 + 0 ≤ _; omega)
  have hWk : W p l e { frames := 0, cells := 0, slots := 0, locals := 0 } (U.calling g mk a) mk a (.java g :: below) methY cY U.heap [] 0 0 (MQ (.java g :: below) (fun _ st o t => o = .returned (some (.int v)) ∧ t.heap = st.heap) a (U.calling g mk a) 0 0 (fun _ => False)) (F0 mk 0 (argsToLocals a cY.maxLocals) []) := by
    refine lv_iconst hexec hbY d0 hk ?_
    exact W.zret hexec hbY hrY hz (fun t ht hW => ⟨rfl, ht⟩) (fun q hq => nomatch hq) d1 hlkY
  obtain ⟨t, hst, o, hrun, hend, ⟨ho, hheap⟩, L, hfe, hL⟩ := hWk ((U.setTop g).pushFrame (.java (entryFrame mk a cY.maxLocals))) rfl Y
  subst ho
  have hLn : L = [] := List.eq_nil_iff_forall_not_mem.mpr (fun q hq => hL q hq)
  subst hLn
  obtain ⟨T', X', hW', hB', ht⟩ := X.outOf hg hdg hend hfe.2.1 hfe.2.2
  refine ⟨some (.int v), ⟨T', Ls, c0, s0⟩, by rw [List.append_nil] at X'; exact X', ⟨rfl, ?_, rfl, rfl, rfl⟩, ?_⟩
  · have h1 : t.heap = (T'.setTop _).heap := congrArg State.heap ht
    have h2 : (T'.setTop { g with pc := g.pc + 3, stack := (some (Value.int v)).toList ++ g.stack }).heap = T'.heap := rfl
    show T'.heap = U.heap
    rw [← h2, ← h1, hheap]
    rfl
  · rw [hin []]
    show Steps p.tables e below _ (T'.setTop _)
    rw [← ht]
    exact steps_weaken hst
section OV
variable {D : va_G} {dA : Nat → ClassId} {A : Nat → Prop} {K : Nat → Nat} {p : Program} {l : Launch} {e : Env} {R : Room} {s : State} {m : MethodId} {args : Array Value} {below : List Frame} {meth : Method} {c : Code} {Q : State → Prop} {nL : Nat} {cc : ByteArray} {own : String} {pc : Nat} {lv : List (Nat × gv)} {w : gw} {h index b : Nat} {rest : List gv}
theorem j_leaf (C : gC D dA A K p R s m args meth c cc nL own h) (hh : 1 ≤ h) {x y : MethodName} {Cr owner : String} {bytes : ByteArray} {maxL ci : Nat} {k : Int} {v : Int32} (hx : gCls w b = some ci) (hn : gNa ci = some Cr) (hy : plainFor y = true)
    (q1 : Cond.methodLink own index x ∈ lw_all) (q6 : Cond.sameMethod x.cls owner x.name x.desc ∈ lw_all) (q5 : Cond.selects Cr x y ∈ lw_all) (q2 : Cond.instanceMethod y ∈ lw_all) (q4 : Cond.code y bytes maxL (some .boolean) ∈ lw_all) (q7 : Cond.declares ⟨owner, x.name, x.desc⟩ ∈ gNw)
    (hd : (owner ≠ "java/lang/invoke/MethodHandle" ∧ owner ≠ "java/lang/invoke/VarHandle" ∧ (parseMethodDescriptor x.desc).map (fun d => d.parameters.length) = some 0)) (hz : narrow .boolean (.int v) = .int v) (hk : Int32.ofInt k = v) (d0 : decode bytes 0 = .ok (.iconst k, 1)) (d1 : decode bytes 1 = .ok (.ireturn, 1)) (hmx : maxL ≤ 45)
    (hl : rest.length ≤ 8) (d : decode cc pc = .ok (.invokevirtual index, 3)) (kk : gJ D dA A K p l e R s m args below meth c Q nL (pc + 3) lv (gi v :: rest) w) : gJ D dA A K p l e R s m args below meth c Q nL pc lv (ga (some b) :: rest) w := by
  intro H locs ls h1 h2 h3 h4 cells slots
  refine gW_sharp h3 ?_
  intro T hT X
  obtain ⟨cellB, hcB, hoB, hclB⟩ := g_recv C hn h1 h2 hx
  obtain ⟨f1, f2⟩ := g_fits C h1 h2 h3
  have hts := C.2.2.2.2.1
  have kf := C.2.2.2.2.2.2.2.2.2.2.1
  have kl := C.2.2.2.2.2.2.2.2.2.2.2
  have hK := g_leafBack (l := l) (R := R) (p := p) (e := e) (below := below) (s := s) (sargs := args) C.1 hy (hts _ q4) hz hk d0 d1 (by omega) (by omega)
  obtain ⟨o, vm₁, ⟨U', l2, c2, s2⟩, hW₁, X', ⟨ho, hhp, e1, e2, e3⟩, st⟩ := va_callVU X C.1 (C := Cr) (owner := owner) (bytes := bytes) (maxL := maxL) (ret := some .boolean) C.2.2.2.1 (hts _ q1) (hts _ q6) (va_Decl.abs (C.2.2.2.2.2.1.2.1 _ q7)) ⟨hd.1, hd.2.1⟩ (hts _ q5) (hts _ q2) (hts _ q4) hK (by rw [hT]; exact hcB) hoB hclB
    (g := F0 m pc ls ((ga (some b) :: rest).map gV)) rfl (by rw [C.2.2.1]; exact h4.1) (argsL := []) (rest := rest.map gV) (fun sig hs => by
      have h9 := hd.2.2
      rw [hs] at h9
      exact (Option.some.inj h9).symm) rfl (g_stk (m := m) (pc := pc) (ls := ls) (st0 := ga (some b) :: rest) hl) (by rw [C.2.1]; exact d) (fun vm₁ hW => ⟨Nat.le_trans (Nat.le_add_right _ _) f1, Nat.le_trans (Nat.le_add_right _ _) f2⟩)
  dsimp only [Pt.U, Pt.locs, Pt.cells, Pt.slots] at X' hhp e1 e2 e3 st
  subst ho; subst e1; subst e2; subst e3
  have hH : U'.heap = H := hhp.trans hT
  obtain ⟨t2, a1, b1⟩ := kk H _ ls h1 h2 h3 h4 _ _ U' hH X'
  exact ⟨t2, st t2 a1, b1⟩
theorem j_isOver {x : Int32} (C : gC D dA A K p R s m args meth c cc nL own h) (hh : 1 ≤ h) (hx : gOver w b = some x) (q1 : Cond.methodLink own index ⟨"WorkflowEngine$Outcome", "isOver", "()Z"⟩ ∈ lw_all) (hl : rest.length ≤ 8) (d : decode cc pc = .ok (.invokevirtual index, 3)) (kk : gJ D dA A K p l e R s m args below meth c Q nL (pc + 3) lv (gi x :: rest) w) : gJ D dA A K p l e R s m args below meth c Q nL pc lv (ga (some b) :: rest) w := by
  have hd : ("WorkflowEngine$Outcome" ≠ "java/lang/invoke/MethodHandle" ∧ "WorkflowEngine$Outcome" ≠ "java/lang/invoke/VarHandle" ∧ (parseMethodDescriptor "()Z").map (fun d => d.parameters.length) = some 0) := ⟨by decide, by decide, by decide +kernel⟩
  unfold gOver at hx
  cases hc : gCls w b with
  | none => rw [hc] at hx; cases hx
  | some ci =>
    rw [hc] at hx
    dsimp only at hx
    by_cases h1 : ci = 101
    · subst h1
      rw [if_pos rfl] at hx
      cases hx
      exact j_leaf C hh hc rfl (y := yX29_isOver) (by decide +kernel) q1 q1126 q1127 q1128 q1129 nq1125 hd rfl rfl (show decode cX29_isOver 0 = .ok (.iconst 0, 1) by decide +kernel) (by decide +kernel) (by decide) hl d kk
    · rw [if_neg h1] at hx
      by_cases h2 : ci = 102
      · subst h2
        rw [if_pos rfl] at hx
        cases hx
        exact j_leaf C hh hc rfl (y := yX30_isOver) (by decide +kernel) q1 q1126 q1130 q1131 q1132 nq1125 hd rfl rfl (show decode cX30_isOver 0 = .ok (.iconst 1, 1) by decide +kernel) (by decide +kernel) (by decide) hl d kk
      · rw [if_neg h2] at hx
        by_cases h3 : ci = 103
        · subst h3
          rw [if_pos rfl] at hx
          cases hx
          exact j_leaf C hh hc rfl (y := yX31_isOver) (by decide +kernel) q1 q1126 q1133 q1134 q1135 nq1125 hd rfl rfl (show decode cX31_isOver 0 = .ok (.iconst 1, 1) by decide +kernel) (by decide +kernel) (by decide) hl d kk
        · rw [if_neg h3] at hx
          cases hx
end OV
