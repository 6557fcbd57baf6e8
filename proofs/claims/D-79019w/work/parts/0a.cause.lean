/-! Throwable.getCause: synchronized: the call is walked into -/
def gcN : MethodName := ⟨"java/lang/Throwable", "getCause", "()Ljava/lang/Throwable;"⟩
abbrev gcB : ByteArray := prog_43_method_8_code
def gcX : MethodName := ⟨"WorkflowEngine$WrongText", "getCause", "()Ljava/lang/Throwable;"⟩
/-- the cause as getCause tells it -/
def gcv (b : Nat) (r : Option Nat) : Option Nat := if r = some b then none else r
section GC
variable {p : Program} {l : Launch} {e : Env} {R : Room} {s : State} {m : MethodId} {args : Array Value} {below : List Frame} {meth : Method} {c : Code} {locs : List Loc} {cells slots : Nat}
/-- into a synchronized callee -/
theorem g_intoSync {U : State} (X : Stand p l e R s m args below meth c U locs cells slots) {g : JFrame} (hg : g.method = m) (hsize : g.locals.size = c.maxLocals) {ig : Instr} {len : Nat} (hdg : decode c.code g.pc = .ok (ig, len))
    {mk : MethodId} {methk : Method} {ck : Code} (a : Array Value) {b : Nat} {cell : Cell} (hmk : U.vm.method? mk = some methk) (hck : methk.code = some ck) (hlk : methk.locks = true) (hst : methk.isStatic = false) (ha : a[0]? = some (.ref b)) (hcell : U.heap[b]? = some cell) (hmon : cell.monitor = {}) (hpk : U.plainMethod mk)
    (hframes : 1 ≤ R.frames) (hlocals : 2 * g.monitorRoom + (g.stack.map fun v => v.category).sum + (ck.maxLocals + 2 + 11) ≤ R.locals) (hcells : cells ≤ R.cells) (hslots : slots ≤ R.slots) :
    ∃ U1 : State, U1.heap = ((U.calling g mk a).setCell b (cell.withEntry (U.calling g mk a).cur)).heap ∧ Stand p l e { frames := 0, cells := 0, slots := 0, locals := 0 } ((U.calling g mk a).setCell b (cell.withEntry (U.calling g mk a).cur)) mk a (.java g :: below) methk ck U1 [] 0 0 ∧
      ∀ acts, (doInvoke e (U.setTop g) acts mk a).1 = U1.setTop (entryFrameSync mk a ck.maxLocals b) := by
  have hent : cell.enterable (U.calling g mk a).cur := by rw [Cell.enterable, hmon]; exact Or.inl ⟨rfl, rfl⟩
  subst hg
  have htop := X.here.top
  have hfc : (U.calling g mk a).frames = .invoking mk a :: .java g :: below := by rw [State.frames_calling htop, X.tail]
  obtain ⟨t, ht, -⟩ := State.frames_cons hfc
  have hcur : (U.calling g mk a).cur < (U.calling g mk a).threads.size := State.cur_lt_of_frames hfc
  have hcode : (U.calling g mk a).code? g.method = some c := by
    have := X.here.code
    rw [State.code?_eq] at this ⊢
    simpa [State.calling, State.pushFrame, State.setFrames] using this
  have hroom : ((U.calling g mk a).setCell b (cell.withEntry (U.calling g mk a).cur)).hasRoom e.platform { frames := 0, cells := 0, slots := 0, locals := 0 } = true := by
    rw [State.hasRoom_setCell (x := cell.withEntry (U.calling g mk a).cur) (show (U.calling g mk a).heap[b]? = some cell from hcell) rfl]
    exact X.room_calling hsize hmk hck (by show 0 + 1 ≤ _; omega) (by show _ + (ck.maxLocals + 11) + 0 ≤ _; omega) (by show cells + 0 ≤ _; omega) (by show slots + 0 ≤ _; omega)
  have hfe : (((U.calling g mk a).setCell b (cell.withEntry (U.calling g mk a).cur)).setFrames (.java (entryFrameSync mk a ck.maxLocals b) :: .java g :: below)).frames = .java (entryFrameSync mk a ck.maxLocals b) :: .java g :: below := State.frames_setFrames (s := (U.calling g mk a).setCell b (cell.withEntry (U.calling g mk a).cur)) _ hcur
  have h0 := At.enter (g := g) X.here a hmk hck hpk
  have hAt : At (((U.calling g mk a).setCell b (cell.withEntry (U.calling g mk a).cur)).setFrames (.java (entryFrameSync mk a ck.maxLocals b) :: .java g :: below)) mk ck (.java g :: below) := by
    refine ⟨by rw [State.topJava?_of_frames hfe]; rfl, ⟨[], by rw [hfe]; rfl⟩, h0.running, ?_, ?_, ?_, h0.plain⟩
    · rw [State.calling_eq htop]
      simpa using X.here.runnable
    · rw [State.calling_eq htop]
      simpa using X.here.alone
    · have := h0.code
      rw [State.code?_eq] at this ⊢
      exact this
  refine ⟨((U.calling g mk a).setCell b (cell.withEntry (U.calling g mk a).cur)).setFrames (.java (entryFrameSync mk a ck.maxLocals b) :: .java g :: below), rfl, ⟨X.admits, X.cas, X.clock, hfc, hroom, by
    have hh : (U.calling g mk a).hears mk (.java g :: below) = true := by simp [State.hears, hcode, hdg, Except.toOption]
    exact hh, hmk, hck, hAt, by rw [hfe]; rfl, State.WarmedH.refl ((U.calling g mk a).setCell b (cell.withEntry (U.calling g mk a).cur)), by rw [State.stackLimits_setFrames], by rw [State.stackBytes_setFrames], ?_⟩, fun acts => ?_⟩
  · exact (State.sameButNew.refl ((U.calling g mk a).setCell b (cell.withEntry (U.calling g mk a).cur)) (x := t) ht).setFrames (.java (entryFrameSync mk a ck.maxLocals b) :: .java g :: below) hcur
  · have hcurU : (U.calling g mk a).cur = (U.setTop g).cur := rfl
    rw [State.setTop_self (State.topJava?_of_frames hfe)]
    rw [(doInvoke_java_sync (s := U.setTop g) (e := e) (acts := acts) (meth := methk) (code := ck) (a := b) (cell := cell) (args := a) hmk hck hlk hst ha hcell (hcurU ▸ hent.either) (X.notFull (g := g) (vars := ck.maxLocals + 2) hsize hframes hlocals)).1]
    obtain ⟨g₀, hg₀⟩ := X.frames_eq
    show ((U.setTop g).setCell b (cell.withEntry (U.setTop g).cur)).setFrames (.java (entryFrameSync mk a ck.maxLocals b) :: ((U.setTop g).setCell b (cell.withEntry (U.setTop g).cur)).frames) = _
    have e1 : ((U.setTop g).setCell b (cell.withEntry (U.setTop g).cur)).frames = .java g :: below := by
      show (U.setTop g).frames = _
      rw [State.frames_setTop _ hg₀]
    rw [e1, State.calling_eq htop, State.setTop_of_frames _ hg₀]
    simp only [State.setCell_setFrames, State.setFrames_setFrames]
    rfl
/-- the payer of getCause -/
theorem g_gcBack {sargs : Array Value} {b : Nat} {r : Option Nat} (hexec : p.tables.exec = Jvm.exec) (hcode : (Cond.codeSync gcN gcB 1 (some (.object "java/lang/Throwable"))).before sargs s = true) (hinst : (Cond.instanceMethod gcN).before sargs s = true)
    (wf : (Cond.fieldLink "java/lang/Throwable" 7 "java/lang/Throwable" "cause" "Ljava/lang/Throwable;").before sargs s = true) (hf : 1 ≤ R.frames) (hl : 8 + 14 ≤ R.locals) :
    Back l R p e below s sargs gcN 3 8 (fun A a => a = #[.ref b] ∧ A.cells ≤ R.cells ∧ A.slots ≤ R.slots ∧ ∃ (cell : Cell) (cf : ClassId) (k : Class) (i : Nat) (f : Field), A.U.heap[b]? = some cell ∧ cell.vm = .none ∧ cell.monitor = {} ∧ A.U.fieldFound? "java/lang/Throwable" "cause" "Ljava/lang/Throwable;" = some (cf, k, i, f) ∧ f.isStatic = false ∧ cell.slots[f.slot]? = some (va_rf r))
      (fun A _ o B => o = some (va_rf (gcv b r)) ∧ B.U.heap = A.U.heap ∧ B.locs = A.locs ∧ B.cells = A.cells ∧ B.slots = A.slots) := by
  intro m meth c A g ig mk a X hg hsize hdg hW hn hp
  obtain ⟨U, Ls, c0, s0⟩ := A
  dsimp only [Pt.U, Pt.locs, Pt.cells, Pt.slots] at X hn hp ⊢
  obtain ⟨rfl, hc, hs, cell, cf, k, i, f, hcell, hvm, hmon, hi, hfst, hslot⟩ := hp
  have hw : (Cond.codeSync gcN gcB 1 (some (.object "java/lang/Throwable"))).before #[.ref b] U = true := word_at X.warmed (Or.inl (by first | rfl | simp [Cond.onTables, Cond.keeps, Cond.steady])) hcode
  have hwi : (Cond.instanceMethod gcN).before #[.ref b] U = true := word_at X.warmed (Or.inl (by first | rfl | simp [Cond.onTables, Cond.keeps, Cond.steady])) hinst
  obtain ⟨methY, cY, hmY, hcY, hbY, hlY, hrY, hlkY, -, -⟩ := Cond.codeSync_spec hn hw
  obtain ⟨m9, meth9, hn9, hm9, hst9, -⟩ := Cond.instanceMethod_spec hwi
  cases hn.symm.trans hn9
  cases hmY.symm.trans hm9
  have hpl : U.plainMethod mk := State.plainMethod.of_named (by decide +kernel) hn hmY
  obtain ⟨U1, hU1, Y, hin⟩ := g_intoSync X hg hsize hdg #[.ref b] (b := b) hmY hcY hlkY hst9 rfl hcell hmon hpl hf (by rw [hlY]; omega) hc hs
  have hent : cell.enterable (U.calling g mk #[.ref b]).cur := by rw [Cell.enterable, hmon]; exact Or.inl ⟨rfl, rfl⟩
  have hb : b < U.heap.size := (Array.getElem?_eq_some_iff.mp hcell).1
  have hcell1 : U1.heap[b]? = some (cell.withEntry (U.calling g mk #[.ref b]).cur) := by
    rw [hU1]
    show (U.heap.setIfInBounds b _)[b]? = _
    simp [hb]
  have d0 : decode cY.code 0 = .ok (.aload_n 0, 1) := by rw [hbY]; decide +kernel
  have d1 : decode cY.code 1 = .ok (.getfield 7, 3) := by rw [hbY]; decide +kernel
  have d4 : decode cY.code 4 = .ok (.aload_n 0, 1) := by rw [hbY]; decide +kernel
  have d5 : decode cY.code 5 = .ok (.if_acmp .ne 7, 3) := by rw [hbY]; decide +kernel
  have d8 : decode cY.code 8 = .ok (.aconst_null, 1) := by rw [hbY]; decide +kernel
  have d9 : decode cY.code 9 = .ok (.goto 7, 3) := by rw [hbY]; decide +kernel
  have d12 : decode cY.code 12 = .ok (.aload_n 0, 1) := by rw [hbY]; decide +kernel
  have d13 : decode cY.code 13 = .ok (.getfield 7, 3) := by rw [hbY]; decide +kernel
  have d16 : decode cY.code 16 = .ok (.areturn, 1) := by rw [hbY]; decide +kernel
  have hown : ((U.calling g mk #[.ref b]).setCell b (cell.withEntry (U.calling g mk #[.ref b]).cur)).vm.findClass "java/lang/Throwable" = some mk.cls := findClass_of_methodNamed (s := U) hn
  have hwf : (Cond.fieldLink "java/lang/Throwable" 7 "java/lang/Throwable" "cause" "Ljava/lang/Throwable;").before #[.ref b] ((U.calling g mk #[.ref b]).setCell b (cell.withEntry (U.calling g mk #[.ref b]).cur)) = true := by
    have h9 : s.WarmedH ((U.calling g mk #[.ref b]).setCell b (cell.withEntry (U.calling g mk #[.ref b]).cur)).vm := X.warmed
    exact word_at h9 (Or.inl (by first | rfl | simp [Cond.onTables, Cond.keeps, Cond.steady])) wf
  have hslot1 : (cell.withEntry (U.calling g mk #[.ref b]).cur).slots[f.slot]? = some (va_rf r) := hslot
  have hleft : (cell.withEntry (U.calling g mk #[.ref b]).cur).left = cell := Cell.left_withEntry' hent
  have hheap : ∀ vm9 : Vm, ((U1.setVm vm9).setCell b cell).heap = U.heap := by
    intro vm9
    show U1.heap.setIfInBounds b cell = U.heap
    rw [hU1]
    show (U.heap.setIfInBounds b _).setIfInBounds b cell = U.heap
    apply Array.ext_getElem?
    intro j
    by_cases hj : j = b
    · subst hj
      rw [Array.getElem?_setIfInBounds]
      simp [hb]
      rw [Array.getElem?_eq_getElem hb] at hcell
      exact (Option.some.inj hcell).symm
    · simp [Array.getElem?_setIfInBounds, Ne.symm hj]
  have close : ∀ (vm9 : Vm) (o : Option Nat), Stand p l e { frames := 0, cells := 0, slots := 0, locals := 0 } ((U.calling g mk #[.ref b]).setCell b (cell.withEntry (U.calling g mk #[.ref b]).cur)) mk #[.ref b] (.java g :: below) methY cY (U1.setVm vm9) [] 0 0 →
      (∀ target, (∀ acts, (doReturn e ((U1.setVm vm9).setTop { method := mk, pc := 16, locals := #[.val (.ref b)], stack := [], locked := some b, monitorRoom := 1 }) acts (some (va_rf o))).1 = target) → Steps p.tables e (.java g :: below) (U1.setTop (entryFrameSync mk #[.ref b] cY.maxLocals b)) target) →
      ∃ B : Pt, Stand p l e R s m sargs below meth c B.U B.locs B.cells B.slots ∧ (B.U.heap = U.heap ∧ B.locs = Ls ∧ B.cells = c0 ∧ B.slots = s0) ∧ Steps p.tables e below (doInvoke e (U.setTop g) [] mk #[.ref b]).1 (B.U.setTop { g with pc := g.pc + 3, stack := (some (va_rf o)).toList ++ g.stack }) := by
    intro vm9 o Y9 hsteps
    obtain ⟨fs, cellT, hT, hret, hrun, hend, hWe, hsame⟩ := Y9.leaveSync (s := U.calling g mk #[.ref b]) hcell hent hlkY (v := some (va_rf o)) (fun h => by rw [hrY] at h; cases h)
    have hcT : cellT = cell.withEntry (U.calling g mk #[.ref b]).cur := Option.some.inj (hT.symm.trans hcell1)
    subst hcT
    rw [hleft] at hret hrun hend hWe hsame
    obtain ⟨T', X', hW', hB', ht⟩ := X.outOf hg hdg hend hWe hsame
    refine ⟨⟨T', Ls, c0, s0⟩, by rw [List.append_nil] at X'; exact X', ⟨?_, rfl, rfl, rfl⟩, ?_⟩
    · have h1 := congrArg State.heap ht
      have h2 : (T'.setTop { g with pc := g.pc + 3, stack := (some (va_rf o)).toList ++ g.stack }).heap = T'.heap := rfl
      rw [h2] at h1
      exact h1.symm.trans (hheap vm9)
    · rw [hin []]
      show Steps p.tables e below _ (T'.setTop _)
      rw [← ht]
      exact steps_weaken (hsteps _ (fun acts => hret _ acts rfl rfl rfl))
  obtain ⟨vm1, Y1, st1⟩ := Y.getfield hexec hown hwf (cf := cf) (i := i) (k := k) (f := f) hi hfst hcell1 (by show cell.vm ≠ _; rw [hvm]; exact fun h => nomatch h) hslot1 (g := { method := mk, pc := 1, locals := #[.val (.ref b)], stack := [.ref b], locked := some b, monitorRoom := 1 }) rfl (rest := []) rfl d1
  have hm1 := Y1.method'
  by_cases hq : r = some b
  · have hg0 : gcv b r = none := by unfold gcv; rw [if_pos hq]
    rw [hg0]
    obtain ⟨B, X', hB, hst⟩ := close vm1 none Y1 (fun target htg => by
      have e0 : entryFrameSync mk #[.ref b] cY.maxLocals b = { method := mk, pc := 0, locals := #[.val (.ref b)], stack := [], locked := some b, monitorRoom := 1 } := by rw [hlY]; rfl
      rw [e0]
      jvm_step Y.here [Y.here.top, hexec, d0, Value.isRef]
      refine st1 _ ?_
      jvm_step Y1.here [Y.here.top, hexec, d4, Value.isRef]
      subst hq
      jvm_step Y1.here [Y.here.top, hexec, d5, va_rf, Value.asRef?, Op.if_acmp.holds]
      jvm_step Y1.here [Y.here.top, hexec, d8]
      jvm_step Y1.here [Y.here.top, hexec, d9]
      jvm_step Y1.here [Y.here.top, hexec, d16, hm1, hrY, narrow]
      refine ⟨rfl, methY, hm1, ⟨_, hrY, rfl⟩, fun acts => ?_⟩
      have h9 := htg acts
      show Steps p.tables e (.java g :: below) (doReturn e _ acts (some (va_rf none))).1 target
      rw [h9]
      exact Steps.refl _)
    exact ⟨_, B, X', ⟨rfl, hB⟩, hst⟩
  · have hg0 : gcv b r = r := by unfold gcv; rw [if_neg hq]
    rw [hg0]
    obtain ⟨vm2, Y2, st2⟩ := Y1.getfield hexec hown hwf (cf := cf) (i := i) (k := k) (f := f) hi hfst hcell1 (by show cell.vm ≠ _; rw [hvm]; exact fun h => nomatch h) hslot1 (g := { method := mk, pc := 13, locals := #[.val (.ref b)], stack := [.ref b], locked := some b, monitorRoom := 1 }) rfl (rest := []) rfl d13
    have hm2 := Y2.method'
    obtain ⟨B, X', hB, hst⟩ := close vm2 r Y2 (fun target htg => by
      have e0 : entryFrameSync mk #[.ref b] cY.maxLocals b = { method := mk, pc := 0, locals := #[.val (.ref b)], stack := [], locked := some b, monitorRoom := 1 } := by rw [hlY]; rfl
      rw [e0]
      jvm_step Y.here [Y.here.top, hexec, d0, Value.isRef]
      refine st1 _ ?_
      jvm_step Y1.here [Y.here.top, hexec, d4, Value.isRef]
      have h12 : Steps p.tables e (.java g :: below) ((U1.setVm vm1).setTop { method := mk, pc := 12, locals := #[.val (.ref b)], stack := [], locked := some b, monitorRoom := 1 }) target := by
        jvm_step Y1.here [Y.here.top, hexec, d12, Value.isRef]
        refine st2 _ ?_
        jvm_step Y2.here [Y.here.top, hexec, d16, hm2, hrY, narrow]
        refine ⟨by cases r <;> rfl, methY, hm2, ⟨_, hrY, rfl⟩, fun acts => ?_⟩
        have h9 := htg acts
        show Steps p.tables e (.java g :: below) (doReturn e ((U1.setVm vm2).setTop _) acts (some (va_rf r))).1 target
        rw [h9]
        exact Steps.refl _
      cases r with
      | none => jvm_step Y1.here [Y.here.top, hexec, d5, va_rf, Value.asRef?, Op.if_acmp.holds]; exact h12
      | some z =>
        have hz : ¬ z = b := fun h => hq (by rw [h])
        jvm_step Y1.here [Y.here.top, hexec, d5, va_rf, Value.asRef?, Op.if_acmp.holds, hz]; exact h12)
    exact ⟨_, B, X', ⟨rfl, hB⟩, hst⟩
/-- a virtual call by an inherited name, whatever pays for it -/
theorem g_callBack {T : State} (X : Stand p l e R s m args below meth c T locs cells slots) (hexec : p.tables.exec = Jvm.exec) {own C owner : String} {index : Nat} {x y : MethodName}
    (hown : s.vm.findClass own = some m.cls) (hlink : (Cond.methodLink own index x).before args s = true) (hsame : (Cond.sameMethod x.cls owner x.name x.desc).before args s = true)
    (hd0 : va_Decl s ⟨owner, x.name, x.desc⟩) (howner : owner ≠ "java/lang/invoke/MethodHandle" ∧ owner ≠ "java/lang/invoke/VarHandle")
    (hsel : (Cond.selects C x y).before args s = true) (hinst : (Cond.instanceMethod y).before args s = true)
    {W9 : Nat} {Pre : Pt → Array Value → Prop} {Post : Pt → Array Value → Option Value → Pt → Prop} (hK : Back l R p e below s args y 3 W9 Pre Post)
    {b : Addr} {cellB : Cell} (hcell : T.heap[b]? = some cellB) (hobj : cellB.vm.isStatics = false) (hcls : s.vm.findClass C = some cellB.cls)
    {g : JFrame} (hg : g.method = m) (hsize : g.locals.size = c.maxLocals) {argsL rest : List Value} (hlen : ∀ sig, parseMethodDescriptor x.desc = some sig → argsL.length = sig.parameters.length)
    (hstack : g.stack = argsL.reverse ++ .ref b :: rest) (hW : 2 * g.monitorRoom + (rest.map fun v => v.category).sum ≤ W9) (hdg : decode c.code g.pc = .ok (.invokevirtual index, 3))
    (hpre : ∀ vm₁, s.WarmedH vm₁ → Pre ⟨T.setVm vm₁, locs, cells, slots⟩ (Value.ref b :: argsL).toArray) :
    ∃ (v : Option Value) (vm₁ : Vm) (B : Pt), s.WarmedH vm₁ ∧ Stand p l e R s m args below meth c B.U B.locs B.cells B.slots ∧ Post ⟨T.setVm vm₁, locs, cells, slots⟩ (Value.ref b :: argsL).toArray v B ∧
      ∀ target, Steps p.tables e below (B.U.setTop { g with pc := g.pc + 3, stack := v.toList ++ rest }) target → Steps p.tables e below (T.setTop g) target := by
  obtain ⟨r0, r, hn, hrm, hstR, hsigR⟩ := hd0
  obtain ⟨cn, ck, r1, hcn, hck, hni, hf, hn1⟩ := Cond.sameMethod_found hsame
  cases hn.symm.trans hn1
  obtain ⟨mk, methM, hnamed, hmethM, -, habM⟩ := Cond.instanceMethod_spec hinst
  obtain ⟨c2, r2, m2, q1, q2, q3, q4, kP, hkP, hkPi⟩ := Cond.selects_spec hsel
  cases hcls.symm.trans q1
  cases hf.symm.trans q2
  cases hnamed.symm.trans q3
  have hselP : selectMethod e.platform s.vm cellB.cls r0 = .method mk := by rw [Launch.admits_selectMethod X.admits]; exact q4
  obtain ⟨vm₁, X₁, hstep₁⟩ := X.invokevirtualUp hexec hown hlink hsame howner hn hrm hstR (a := b) (cell := cellB) hcell
    (fun z h => by rw [h] at hobj; cases hobj) hselP hmethM habM hkP hkPi (g := g) hg (argsL := argsL) (rest := rest) (hlen _ hsigR) hstack hdg
  obtain ⟨v, B, X', hpost, hsteps⟩ := hK m meth c ⟨T.setVm vm₁, locs, cells, slots⟩ { g with stack := rest } (.invokevirtual index) mk (Value.ref b :: argsL).toArray X₁ hg hsize hdg hW (X₁.named hnamed) (hpre vm₁ X₁.warmed)
  exact ⟨v, vm₁, B, X₁.warmed, X', hpost, fun target h => hstep₁ _ fun acts => by rw [doInvoke_state]; exact hsteps.trans h⟩
theorem j_getCause {D : va_G} {dA : Nat → ClassId} {A : Nat → Prop} {K : Nat → Nat} {Q : State → Prop} {nL : Nat} {cc : ByteArray} {own : String} {pc : Nat} {lv : List (Nat × gv)} {w : gw} {h index b : Nat} {rest : List gv} {r : Option Nat}
    (C : gC D dA A K p R s m args meth c cc nL own h) (hh : 1 ≤ h) (hx : gR w b 15 0 = some r) (q1 : Cond.methodLink own index gcX ∈ lw_all) (qc : Cond.codeSync gcN gcB 1 (some (.object "java/lang/Throwable")) ∈ lw_all)
    (hl : rest.length ≤ 8) (d : decode cc pc = .ok (.invokevirtual index, 3)) (kk : gJ D dA A K p l e R s m args below meth c Q nL (pc + 3) lv (ga (gcv b r) :: rest) w) : gJ D dA A K p l e R s m args below meth c Q nL pc lv (ga (some b) :: rest) w := by
  intro H locs ls h1 h2 h3 h4 cells slots
  refine gW_sharp h3 ?_
  intro T hT X
  obtain ⟨fs, e0, e1⟩ := gF_e (gR_F hx)
  have hcls : gCls w b = some 15 := by unfold gCls; rw [e0]
  obtain ⟨cellB, hcB, hoB, hclB⟩ := g_recv C (ci := 15) rfl h1 h2 hcls
  obtain ⟨r0, g1, cell', b1, b2, b3, b4⟩ := h1.1 b _ e0
  cases Option.some.inj (b1.symm.trans hcB)
  obtain ⟨c9, m1, m2⟩ := h1.2.2.2.2.2.2.2.2 b _ e0
  cases Option.some.inj (m1.symm.trans hcB)
  obtain ⟨f1, f2⟩ := g_fits C h1 h2 h3
  have hts := C.2.2.2.2.1
  have kf := C.2.2.2.2.2.2.2.2.2.2.1
  have kl := C.2.2.2.2.2.2.2.2.2.2.2
  have hr : r0 = (RX15, TX15, 6) := Option.some.inj (g1.symm.trans rfl)
  subst hr
  have hK := g_gcBack (l := l) (R := R) (p := p) (e := e) (below := below) (s := s) (sargs := args) (b := b) (r := r) C.1 (hts _ qc) (hts _ q615) (hts _ q293) (by omega) (by omega)
  obtain ⟨o, vm₁, ⟨U', l2, c2, s2⟩, hW₁, X', ⟨ho, hhp, e1', e2, e3⟩, st⟩ := g_callBack X C.1 (C := "WorkflowEngine$WrongText") (owner := "java/lang/Throwable") C.2.2.2.1 (hts _ q1) (hts _ q612) (va_Decl.abs (C.2.2.2.2.2.1.2.1 _ nq613)) ⟨by decide, by decide⟩ (hts _ q614) (hts _ q615) hK (by rw [hT]; exact hcB) hoB hclB
    (g := F0 m pc ls ((ga (some b) :: rest).map gV)) rfl (by rw [C.2.2.1]; exact h4.1) (argsL := []) (rest := rest.map gV) (fun sig hs => by
      have h9 : (parseMethodDescriptor gcX.desc).map (fun d => d.parameters.length) = some 0 := by decide +kernel
      rw [hs] at h9
      exact (Option.some.inj h9).symm) rfl (g_stk (m := m) (pc := pc) (ls := ls) (st0 := ga (some b) :: rest) hl) (by rw [C.2.1]; exact d) (fun vm₁ hW => by
      refine ⟨rfl, Nat.le_trans (Nat.le_add_right _ _) f1, Nat.le_trans (Nat.le_add_right _ _) f2, ?_⟩
      have hK1 : va_K D gCl (gTys dA) (T.setVm vm₁) := va_K.moved hW.alike C.2.2.2.2.2.1.1
      obtain ⟨hS, hfc, kC, hkC, hkind⟩ := hK1.1 15 _ rfl
      obtain ⟨cf, kf, fi, f, hi, hsl⟩ := hS 0 (by decide)
      have hts1 : ∀ w ∈ lw_all, w.before args (T.setVm vm₁) = true := fun w h => pay_in hts (fun w h => ⟨h, good_of_word (List.mem_filter.mp h).2⟩) w h args (T.setVm vm₁) hW
      refine ⟨_, cf, kf, fi, f, by show T.heap[b]? = _; rw [hT]; exact m1, b3, m2, hi, ?_, ?_⟩
      · exact (u_facts hfc hkC (u_lays hts1 in_X15 (by decide)) hi).1
      · rw [hsl, b4 0 (by decide)]
        simp [vp_V, e1, gV])
  dsimp only [Pt.U, Pt.locs, Pt.cells, Pt.slots] at X' hhp e1' e2 e3 st
  subst ho; subst e1'; subst e2; subst e3
  have hH : U'.heap = H := hhp.trans hT
  obtain ⟨t2, a1, b1⟩ := kk H _ ls h1 h2 h3 h4 _ _ U' hH X'
  exact ⟨t2, st t2 a1, b1⟩
end GC
